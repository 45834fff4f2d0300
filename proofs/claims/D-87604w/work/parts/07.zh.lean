/-! THE COMPONENT'S HEAP as a picture: tags of cells, lengths, fields by their numbers, elements by the kinds of arrays. No program in sight. -/
abbrev ZH : Type := (Nat → Nat) × (Nat → Nat) × (Nat → Nat → Int32) × (Nat → Nat → Option Nat) × (Nat → Nat → Nat → Int32) × (Nat → Nat → Nat → Option Nat)
/-- tag of the cell a: 0 unknown, 1.. an object, 20.. an array -/
def zt (h : ZH) (a : Nat) : Nat := h.1 a
def zl (h : ZH) (a : Nat) : Nat := h.2.1 a
def zi (h : ZH) (f a : Nat) : Int32 := h.2.2.1 f a
def zr (h : ZH) (f a : Nat) : Option Nat := h.2.2.2.1 f a
def zj (h : ZH) (k a i : Nat) : Int32 := h.2.2.2.2.1 k a i
def zs (h : ZH) (k a i : Nat) : Option Nat := h.2.2.2.2.2 k a i
def zpi (h : ZH) (f a : Nat) (x : Int32) : ZH := (h.1, h.2.1, (fun f' a' => if f' = f ∧ a' = a then x else h.2.2.1 f' a'), h.2.2.2)
def zpr (h : ZH) (f a : Nat) (x : Option Nat) : ZH := (h.1, h.2.1, h.2.2.1, (fun f' a' => if f' = f ∧ a' = a then x else h.2.2.2.1 f' a'), h.2.2.2.2)
def zpj (h : ZH) (k a i : Nat) (x : Int32) : ZH := (h.1, h.2.1, h.2.2.1, h.2.2.2.1, (fun k' a' i' => if k' = k ∧ a' = a ∧ i' = i then x else h.2.2.2.2.1 k' a' i'), h.2.2.2.2.2)
def zps (h : ZH) (k a i : Nat) (x : Option Nat) : ZH := (h.1, h.2.1, h.2.2.1, h.2.2.2.1, h.2.2.2.2.1, (fun k' a' i' => if k' = k ∧ a' = a ∧ i' = i then x else h.2.2.2.2.2 k' a' i'))
/-- a new object with tag t at a -/
def znew (h : ZH) (a t : Nat) : ZH := ((fun a' => if a' = a then t else h.1 a'), h.2.1, (fun f' a' => if a' = a then 0 else h.2.2.1 f' a'), (fun f' a' => if a' = a then none else h.2.2.2.1 f' a'), h.2.2.2.2)
/-- a new array of kind k, n long, at a -/
def zarr (h : ZH) (a k n : Nat) : ZH := ((fun a' => if a' = a then 20 + k else h.1 a'), (fun a' => if a' = a then n else h.2.1 a'), h.2.2.1, h.2.2.2.1, (fun k' a' i' => if a' = a then 0 else h.2.2.2.2.1 k' a' i'), (fun k' a' i' => if a' = a then none else h.2.2.2.2.2 k' a' i'))
/-- elements of a reference array copied -/
def zcps (h : ZH) (k a sp d dp n : Nat) : ZH := (h.1, h.2.1, h.2.2.1, h.2.2.2.1, h.2.2.2.2.1, (fun k' a' i' => if k' = k ∧ a' = d ∧ dp ≤ i' ∧ i' < dp + n then h.2.2.2.2.2 k a (sp + (i' - dp)) else h.2.2.2.2.2 k' a' i'))
def zcpj (h : ZH) (k a sp d dp n : Nat) : ZH := (h.1, h.2.1, h.2.2.1, h.2.2.2.1, (fun k' a' i' => if k' = k ∧ a' = d ∧ dp ≤ i' ∧ i' < dp + n then h.2.2.2.2.1 k a (sp + (i' - dp)) else h.2.2.2.2.1 k' a' i'), h.2.2.2.2.2)
theorem zt_pi (h : ZH) (f a : Nat) (x : Int32) (b : Nat) : zt (zpi h f a x) b = (zt h b) := rfl
theorem zl_pi (h : ZH) (f a : Nat) (x : Int32) (b : Nat) : zl (zpi h f a x) b = (zl h b) := rfl
theorem zi_pi (h : ZH) (f a : Nat) (x : Int32) (g : Nat) (b : Nat) : zi (zpi h f a x) g b = (if g = f ∧ b = a then x else zi h g b) := rfl
theorem zr_pi (h : ZH) (f a : Nat) (x : Int32) (g : Nat) (b : Nat) : zr (zpi h f a x) g b = (zr h g b) := rfl
theorem zj_pi (h : ZH) (f a : Nat) (x : Int32) (c : Nat) (b : Nat) (j : Nat) : zj (zpi h f a x) c b j = (zj h c b j) := rfl
theorem zs_pi (h : ZH) (f a : Nat) (x : Int32) (c : Nat) (b : Nat) (j : Nat) : zs (zpi h f a x) c b j = (zs h c b j) := rfl
theorem zt_pr (h : ZH) (f a : Nat) (x : Option Nat) (b : Nat) : zt (zpr h f a x) b = (zt h b) := rfl
theorem zl_pr (h : ZH) (f a : Nat) (x : Option Nat) (b : Nat) : zl (zpr h f a x) b = (zl h b) := rfl
theorem zi_pr (h : ZH) (f a : Nat) (x : Option Nat) (g : Nat) (b : Nat) : zi (zpr h f a x) g b = (zi h g b) := rfl
theorem zr_pr (h : ZH) (f a : Nat) (x : Option Nat) (g : Nat) (b : Nat) : zr (zpr h f a x) g b = (if g = f ∧ b = a then x else zr h g b) := rfl
theorem zj_pr (h : ZH) (f a : Nat) (x : Option Nat) (c : Nat) (b : Nat) (j : Nat) : zj (zpr h f a x) c b j = (zj h c b j) := rfl
theorem zs_pr (h : ZH) (f a : Nat) (x : Option Nat) (c : Nat) (b : Nat) (j : Nat) : zs (zpr h f a x) c b j = (zs h c b j) := rfl
theorem zt_pj (h : ZH) (k a i : Nat) (x : Int32) (b : Nat) : zt (zpj h k a i x) b = (zt h b) := rfl
theorem zl_pj (h : ZH) (k a i : Nat) (x : Int32) (b : Nat) : zl (zpj h k a i x) b = (zl h b) := rfl
theorem zi_pj (h : ZH) (k a i : Nat) (x : Int32) (g : Nat) (b : Nat) : zi (zpj h k a i x) g b = (zi h g b) := rfl
theorem zr_pj (h : ZH) (k a i : Nat) (x : Int32) (g : Nat) (b : Nat) : zr (zpj h k a i x) g b = (zr h g b) := rfl
theorem zj_pj (h : ZH) (k a i : Nat) (x : Int32) (c : Nat) (b : Nat) (j : Nat) : zj (zpj h k a i x) c b j = (if c = k ∧ b = a ∧ j = i then x else zj h c b j) := rfl
theorem zs_pj (h : ZH) (k a i : Nat) (x : Int32) (c : Nat) (b : Nat) (j : Nat) : zs (zpj h k a i x) c b j = (zs h c b j) := rfl
theorem zt_ps (h : ZH) (k a i : Nat) (x : Option Nat) (b : Nat) : zt (zps h k a i x) b = (zt h b) := rfl
theorem zl_ps (h : ZH) (k a i : Nat) (x : Option Nat) (b : Nat) : zl (zps h k a i x) b = (zl h b) := rfl
theorem zi_ps (h : ZH) (k a i : Nat) (x : Option Nat) (g : Nat) (b : Nat) : zi (zps h k a i x) g b = (zi h g b) := rfl
theorem zr_ps (h : ZH) (k a i : Nat) (x : Option Nat) (g : Nat) (b : Nat) : zr (zps h k a i x) g b = (zr h g b) := rfl
theorem zj_ps (h : ZH) (k a i : Nat) (x : Option Nat) (c : Nat) (b : Nat) (j : Nat) : zj (zps h k a i x) c b j = (zj h c b j) := rfl
theorem zs_ps (h : ZH) (k a i : Nat) (x : Option Nat) (c : Nat) (b : Nat) (j : Nat) : zs (zps h k a i x) c b j = (if c = k ∧ b = a ∧ j = i then x else zs h c b j) := rfl
theorem zt_new (h : ZH) (a t : Nat) (b : Nat) : zt (znew h a t) b = (if b = a then t else zt h b) := rfl
theorem zl_new (h : ZH) (a t : Nat) (b : Nat) : zl (znew h a t) b = (zl h b) := rfl
theorem zi_new (h : ZH) (a t : Nat) (g : Nat) (b : Nat) : zi (znew h a t) g b = (if b = a then 0 else zi h g b) := rfl
theorem zr_new (h : ZH) (a t : Nat) (g : Nat) (b : Nat) : zr (znew h a t) g b = (if b = a then none else zr h g b) := rfl
theorem zj_new (h : ZH) (a t : Nat) (c : Nat) (b : Nat) (j : Nat) : zj (znew h a t) c b j = (zj h c b j) := rfl
theorem zs_new (h : ZH) (a t : Nat) (c : Nat) (b : Nat) (j : Nat) : zs (znew h a t) c b j = (zs h c b j) := rfl
theorem zt_arr (h : ZH) (a k n : Nat) (b : Nat) : zt (zarr h a k n) b = (if b = a then 20 + k else zt h b) := rfl
theorem zl_arr (h : ZH) (a k n : Nat) (b : Nat) : zl (zarr h a k n) b = (if b = a then n else zl h b) := rfl
theorem zi_arr (h : ZH) (a k n : Nat) (g : Nat) (b : Nat) : zi (zarr h a k n) g b = (zi h g b) := rfl
theorem zr_arr (h : ZH) (a k n : Nat) (g : Nat) (b : Nat) : zr (zarr h a k n) g b = (zr h g b) := rfl
theorem zj_arr (h : ZH) (a k n : Nat) (c : Nat) (b : Nat) (j : Nat) : zj (zarr h a k n) c b j = (if b = a then 0 else zj h c b j) := rfl
theorem zs_arr (h : ZH) (a k n : Nat) (c : Nat) (b : Nat) (j : Nat) : zs (zarr h a k n) c b j = (if b = a then none else zs h c b j) := rfl
theorem zt_cps (h : ZH) (k a sp d dp n : Nat) (b : Nat) : zt (zcps h k a sp d dp n) b = (zt h b) := rfl
theorem zl_cps (h : ZH) (k a sp d dp n : Nat) (b : Nat) : zl (zcps h k a sp d dp n) b = (zl h b) := rfl
theorem zi_cps (h : ZH) (k a sp d dp n : Nat) (g : Nat) (b : Nat) : zi (zcps h k a sp d dp n) g b = (zi h g b) := rfl
theorem zr_cps (h : ZH) (k a sp d dp n : Nat) (g : Nat) (b : Nat) : zr (zcps h k a sp d dp n) g b = (zr h g b) := rfl
theorem zj_cps (h : ZH) (k a sp d dp n : Nat) (c : Nat) (b : Nat) (j : Nat) : zj (zcps h k a sp d dp n) c b j = (zj h c b j) := rfl
theorem zs_cps (h : ZH) (k a sp d dp n : Nat) (c : Nat) (b : Nat) (j : Nat) : zs (zcps h k a sp d dp n) c b j = (if c = k ∧ b = d ∧ dp ≤ j ∧ j < dp + n then zs h k a (sp + (j - dp)) else zs h c b j) := rfl
theorem zt_cpj (h : ZH) (k a sp d dp n : Nat) (b : Nat) : zt (zcpj h k a sp d dp n) b = (zt h b) := rfl
theorem zl_cpj (h : ZH) (k a sp d dp n : Nat) (b : Nat) : zl (zcpj h k a sp d dp n) b = (zl h b) := rfl
theorem zi_cpj (h : ZH) (k a sp d dp n : Nat) (g : Nat) (b : Nat) : zi (zcpj h k a sp d dp n) g b = (zi h g b) := rfl
theorem zr_cpj (h : ZH) (k a sp d dp n : Nat) (g : Nat) (b : Nat) : zr (zcpj h k a sp d dp n) g b = (zr h g b) := rfl
theorem zj_cpj (h : ZH) (k a sp d dp n : Nat) (c : Nat) (b : Nat) (j : Nat) : zj (zcpj h k a sp d dp n) c b j = (if c = k ∧ b = d ∧ dp ≤ j ∧ j < dp + n then zj h k a (sp + (j - dp)) else zj h c b j) := rfl
theorem zs_cpj (h : ZH) (k a sp d dp n : Nat) (c : Nat) (b : Nat) (j : Nat) : zs (zcpj h k a sp d dp n) c b j = (zs h c b j) := rfl
