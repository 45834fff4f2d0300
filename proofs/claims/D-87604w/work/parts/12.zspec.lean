/-! WHAT A BOOK HOLDS, in plain terms (no heap, no program), and the picture of a book in the component's heap. -/
set_option maxRecDepth 100000
/-- counts; attributes by (code, index); lists of numbers; a person's stays -/
abbrev ZS : Type := (Nat → Nat) × (Nat → Nat → Int32) × (Nat → Nat → List Nat) × (Nat → List (Int32 × Int32))
/-- counts: 0 fields, 1 graves, 2 persons -/
def sn (σ : ZS) (k : Nat) : Nat := σ.1 k
/-- attributes: the codes of the twin's arrays -/
def sa (σ : ZS) (k i : Nat) : Int32 := σ.2.1 k i
/-- lists: 0 a grave's order, 1 who lies in a grave -/
def sl (σ : ZS) (k i : Nat) : List Nat := σ.2.2.1 k i
/-- a person's stays: day, grave -/
def sy (σ : ZS) (p : Nat) : List (Int32 × Int32) := σ.2.2.2 p
def snu (σ : ZS) (k n : Nat) : ZS := ((fun k' => if k' = k then n else σ.1 k'), σ.2)
def sau (σ : ZS) (k i : Nat) (x : Int32) : ZS := (σ.1, (fun k' i' => if k' = k ∧ i' = i then x else σ.2.1 k' i'), σ.2.2)
def slu (σ : ZS) (k i : Nat) (l : List Nat) : ZS := (σ.1, σ.2.1, (fun k' i' => if k' = k ∧ i' = i then l else σ.2.2.1 k' i'), σ.2.2.2)
def syu (σ : ZS) (p : Nat) (l : List (Int32 × Int32)) : ZS := (σ.1, σ.2.1, σ.2.2.1, (fun p' => if p' = p then l else σ.2.2.2 p'))
theorem sn_nu (σ : ZS) (k n j : Nat) : sn (snu σ k n) j = if j = k then n else sn σ j := rfl
theorem sa_nu (σ : ZS) (k n j i : Nat) : sa (snu σ k n) j i = sa σ j i := rfl
theorem sl_nu (σ : ZS) (k n j i : Nat) : sl (snu σ k n) j i = sl σ j i := rfl
theorem sy_nu (σ : ZS) (k n p : Nat) : sy (snu σ k n) p = sy σ p := rfl
theorem sn_au (σ : ZS) (k i : Nat) (x : Int32) (j : Nat) : sn (sau σ k i x) j = sn σ j := rfl
theorem sa_au (σ : ZS) (k i : Nat) (x : Int32) (j m : Nat) : sa (sau σ k i x) j m = if j = k ∧ m = i then x else sa σ j m := rfl
theorem sl_au (σ : ZS) (k i : Nat) (x : Int32) (j m : Nat) : sl (sau σ k i x) j m = sl σ j m := rfl
theorem sy_au (σ : ZS) (k i : Nat) (x : Int32) (p : Nat) : sy (sau σ k i x) p = sy σ p := rfl
theorem sn_lu (σ : ZS) (k i : Nat) (l : List Nat) (j : Nat) : sn (slu σ k i l) j = sn σ j := rfl
theorem sa_lu (σ : ZS) (k i : Nat) (l : List Nat) (j m : Nat) : sa (slu σ k i l) j m = sa σ j m := rfl
theorem sl_lu (σ : ZS) (k i : Nat) (l : List Nat) (j m : Nat) : sl (slu σ k i l) j m = if j = k ∧ m = i then l else sl σ j m := rfl
theorem sy_lu (σ : ZS) (k i : Nat) (l : List Nat) (p : Nat) : sy (slu σ k i l) p = sy σ p := rfl
theorem sn_yu (σ : ZS) (q : Nat) (l : List (Int32 × Int32)) (j : Nat) : sn (syu σ q l) j = sn σ j := rfl
theorem sa_yu (σ : ZS) (q : Nat) (l : List (Int32 × Int32)) (j m : Nat) : sa (syu σ q l) j m = sa σ j m := rfl
theorem sl_yu (σ : ZS) (q : Nat) (l : List (Int32 × Int32)) (j m : Nat) : sl (syu σ q l) j m = sl σ j m := rfl
theorem sy_yu (σ : ZS) (q : Nat) (l : List (Int32 × Int32)) (p : Nat) : sy (syu σ q l) p = if p = q then l else sy σ p := rfl
/-- a book without anything -/
def s0 : ZS := ((fun _ => 0), (fun _ _ => 0), (fun _ _ => []), fun _ => [])
/-- a number as a reference -/
def rfx (ad : Nat → Nat) (x : Int32) : Option Nat := if x < 0 then none else some (ad x.toNatClampNeg)
theorem rfx_none (ad : Nat → Nat) : rfx ad (-1) = none := rfl
theorem rfx_some (ad : Nat → Nat) {n : Nat} (h : n < 2 ^ 31) : rfx ad (nI n) = some (ad n) := by
  unfold rfx
  rw [if_neg (nI_pos h), nI_clamp h]
/-- -1 or a number below n -/
def sOk (n : Nat) (x : Int32) : Prop := x = -1 ∨ ∃ j, j < n ∧ x = nI j
/-- addresses: 0 persons, 1 graves, 2 fields, 3 rows' arrays, 4 told arrays, 5 lists (0 fields, 1 graves, 2 persons, 3+3p stays, 4+3g order, 5+3g lying), 7 fields' arrays of rows, 8 stays (1000 p + k) -/
abbrev ZA : Type := Nat → Nat → Nat
def rcKind (x : Int32) : Nat := if x = 1 then 8 else if x = 2 then 9 else if x = 3 then 10 else if x = 4 then 11 else if x = 5 then 12 else 13
def rcPi : List Nat := [700, 701, 702, 703, 708, 709, 711, 712]
def rcPr : List Nat := [704, 705, 706, 707]
def rcGi : List Nat := [600, 601, 602, 603, 604, 605, 606, 608, 610, 612]
def rcGr : List Nat := [607, 609, 614]
/-- σ's attributes bear the component's field codes; a reference is a number, -1 none -/
def rcPers (A : ZA) (h : ZH) (σ : ZS) (p : Nat) : Prop := zt h (A 0 p) = 14 ∧ (∀ f ∈ rcPi, zi h f (A 0 p) = sa σ f p) ∧ (∀ f ∈ rcPr, zr h f (A 0 p) = rfx (A 0) (sa σ f p)) ∧ zr h 710 (A 0 p) = rfx (A 1) (sa σ 710 p) ∧ zr h 713 (A 0 p) = some (A 5 (3 + 3 * p))
/-- attribute 10: the grave's kind; 613: its own number where there is an array of who was told (attribute 20, 150 g + p) -/
def rcGrave (A : ZA) (h : ZH) (σ : ZS) (g : Nat) : Prop := zt h (A 1 g) = rcKind (sa σ 10 g) ∧ (∀ f ∈ rcGi, zi h f (A 1 g) = sa σ f g) ∧ (∀ f ∈ rcGr, zr h f (A 1 g) = rfx (A 0) (sa σ f g)) ∧ zr h 611 (A 1 g) = some (A 5 (4 + 3 * g)) ∧ zr h 615 (A 1 g) = some (A 5 (5 + 3 * g)) ∧
  (zr h 613 (A 1 g) = none ∧ sa σ 613 g = -1 ∨ zr h 613 (A 1 g) = some (A 4 g) ∧ sa σ 613 g = nI g ∧ zt h (A 4 g) = 21 ∧ zl h (A 4 g) = 150 ∧ ∀ p, p < 150 → zj h 1 (A 4 g) p = sa σ 20 (150 * g + p))
/-- the row r's array, r = 12 f + its number; attributes 5 its sort, 6 its length, 8 (30 r + k) what stands there: 0 nothing, 1 tree, 2 way, 10 + g -/
def rcSpot (A : ZA) (h : ZH) (cb : Nat) (x : Int32) : Option Nat := if x = 0 then none else if x = 1 then zr h 100 cb else if x = 2 then zr h 101 cb else rfx (A 1) (x - 10)
def rcRow (A : ZA) (h : ZH) (σ : ZS) (cb r : Nat) : Prop := zt h (A 3 r) = (if sa σ 5 r = 0 then 23 else if sa σ 5 r = 1 then 24 else if sa σ 5 r = 2 then 25 else 26) ∧ nI (zl h (A 3 r)) = sa σ 6 r ∧ zl h (A 3 r) ≤ 30 ∧ ∀ k, k < zl h (A 3 r) → zs h 3 (A 3 r) k = rcSpot A h cb (sa σ 8 (30 * r + k))
/-- attribute 501 (12 f + i): -1 a row torn out, 0 a row that stands -/
def rcField (A : ZA) (h : ZH) (σ : ZS) (cb f : Nat) : Prop := zt h (A 2 f) = 7 ∧ zi h 500 (A 2 f) = sa σ 500 f ∧ zr h 501 (A 2 f) = some (A 7 f) ∧ zi h 502 (A 2 f) = sa σ 502 f ∧ zt h (A 7 f) = 27 ∧ zl h (A 7 f) = 12 ∧ ∃ n, n ≤ 12 ∧ sa σ 502 f = nI n ∧ ∀ i, i < n → (sa σ 501 (12 * f + i) = -1 ∧ zs h 7 (A 7 f) i = none ∨ sa σ 501 (12 * f + i) = 0 ∧ zs h 7 (A 7 f) i = some (A 3 (12 * f + i)) ∧ rcRow A h σ cb (12 * f + i))
/-- the contents of the list j -/
def rcCon (A : ZA) (σ : ZS) (j : Nat) : List Nat := if j = 0 then (List.range (sn σ 0)).map (A 2) else if j = 1 then (List.range (sn σ 1)).map (A 1) else if j = 2 then (List.range (sn σ 2)).map (A 0) else if j % 3 = 0 then (List.range (sy σ ((j - 3) / 3)).length).map (fun k => A 8 (1000 * ((j - 3) / 3) + k)) else if j % 3 = 1 then (sl σ 0 ((j - 4) / 3)).map (A 0) else (sl σ 1 ((j - 5) / 3)).map (A 0)
/-- the lists there are -/
def rcLive (σ : ZS) (j : Nat) : Prop := j < 3 ∨ (3 ≤ j ∧ j % 3 = 0 ∧ (j - 3) / 3 < sn σ 2) ∨ (3 ≤ j ∧ j % 3 ≠ 0 ∧ (j - 4) / 3 < sn σ 1)
def rcStay (A : ZA) (h : ZH) (σ : ZS) (p k : Nat) : Prop := zt h (A 8 (1000 * p + k)) = 15 ∧ ∃ d g, (sy σ p)[k]? = some (d, g) ∧ zi h 800 (A 8 (1000 * p + k)) = d ∧ zr h 801 (A 8 (1000 * p + k)) = rfx (A 1) g
def rcBook (A : ZA) (h : ZH) (σ : ZS) (cb b : Nat) : Prop := zt h b = 4 ∧ zi h 203 b = sa σ 203 0 ∧ zi h 204 b = sa σ 204 0 ∧ zr h 200 b = some (A 5 0) ∧ zr h 201 b = some (A 5 1) ∧ zr h 202 b = some (A 5 2) ∧ zr h 205 b = some cb
def rcHome (G : Nat × Nat × Nat) (h : ZH) (cb : Nat) : Prop := zt h cb = 1 ∧ (∃ tr wy : Nat, zr h 100 cb = some tr ∧ zt h tr = 2 ∧ zr h 101 cb = some wy ∧ zt h wy = 3) ∧ (zt h G.1 = 22 ∧ zl h G.1 = 0) ∧ zt h G.2.1 = 22 ∧ zl h G.2.1 = 0
/-- one cell as it was -/
def zSm (h0 h : ZH) (a : Nat) : Prop := zt h a = zt h0 a ∧ zl h a = zl h0 a ∧ (∀ f, zi h f a = zi h0 f a ∧ zr h f a = zr h0 f a) ∧ ∀ k i, i < zl h0 a → zj h k a i = zj h0 k a i ∧ zs h k a i = zs h0 k a i
def rcRowLive (σ : ZS) (r : Nat) : Prop := r / 12 < sn σ 0 ∧ r % 12 < (sa σ 502 (r / 12)).toNatClampNeg ∧ sa σ 501 r = 0
/-- no two things of a kind lie at the same place, and none on a protected one -/
def rcApart (F : Nat → Prop) (A : ZA) (E : Nat → Nat) (h : ZH) (σ : ZS) : Prop := (∀ k n, (k = 0 ∧ n = sn σ 2 ∨ k = 1 ∧ n = sn σ 1 ∨ k = 2 ∧ n = sn σ 0 ∨ k = 7 ∧ n = sn σ 0) → (∀ i j, i < n → j < n → A k i = A k j → i = j) ∧ ∀ i, i < n → ¬ F (A k i)) ∧
  (∀ i j, rcLive σ i → rcLive σ j → A 5 i = A 5 j → i = j) ∧ (∀ i, rcLive σ i → ¬ F (A 5 i)) ∧ (∀ i j, rcLive σ i → rcLive σ j → E i = E j → i = j ∨ zl h (E i) = 0) ∧ (∀ i, rcLive σ i → ¬ F (E i) ∨ zl h (E i) = 0) ∧
  (∀ i j, rcRowLive σ i → rcRowLive σ j → A 3 i = A 3 j → i = j) ∧ (∀ i, rcRowLive σ i → ¬ F (A 3 i)) ∧ (∀ i j, i < sn σ 1 → j < sn σ 1 → ¬ sa σ 613 i = -1 → ¬ sa σ 613 j = -1 → A 4 i = A 4 j → i = j) ∧ ∀ i, i < sn σ 1 → ¬ sa σ 613 i = -1 → ¬ F (A 4 i)
/-- THE BOOK at b in the heap h holds σ; what is protected is as in h0 -/
def rcAll (G : Nat × Nat × Nat) (F : Nat → Prop) (h0 : ZH) (A : ZA) (E : Nat → Nat) (h : ZH) (σ : ZS) (cb b : Nat) : Prop := rcBook A h σ cb b ∧ ¬ F b ∧ rcHome G h cb ∧ (∀ p, p < sn σ 2 → rcPers A h σ p) ∧ (∀ g, g < sn σ 1 → rcGrave A h σ g) ∧ (∀ f, f < sn σ 0 → rcField A h σ cb f) ∧ (∀ j, rcLive σ j → zL h (A 5 j) (E j) (rcCon A σ j)) ∧ (∀ p, p < sn σ 2 → ∀ k, k < (sy σ p).length → rcStay A h σ p k) ∧ rcApart F A E h σ ∧ ∀ a, F a → zt h0 a ≠ 0 ∧ zSm h0 h a
