/-! THE COMPONENT SIDE, rows (printed by mk_zrow.py from zrow.body) -/
set_option maxRecDepth 100000
def zTR : u_T := fun k => match k with | 0 => ("ChurchyardBook$Refused", "answer", "I", true) | _ => ("java/lang/Throwable", "backtrace", "Ljava/lang/Object;", false)
def zT0 : u_T := fun _ => ("", "", "", false)
def zc_cl : List vw_C := [(RX1, TX1, 8), (RX3, zT0, 0), (RX4, zT0, 0), (RX5, TX5, 6), (RJ2, TJ2, 3), (RX7, zTR, 2), (RX8, TX8, 3), (RX10, TX10, 16), (RX11, TX11, 16), (RX12, TX12, 16), (RX13, TX13, 16), (RX14, TX14, 16), (RX15, TX15, 16), (RX16, TX16, 14), (RX17, TX17, 2), (RJ18, zT0, 0)]
def zc_b : Nat → Nat := fun ci => match ci with
  | 0 => 100
  | 1 => 990
  | 2 => 991
  | 3 => 200
  | 4 => 300
  | 5 => 400
  | 6 => 500
  | 7 => 600
  | 8 => 600
  | 9 => 600
  | 10 => 600
  | 11 => 600
  | 12 => 600
  | 13 => 700
  | 14 => 800
  | 15 => 992
  | _ => 0
def zc_rf : Nat → Bool := fun f => match f with
  | 100 => true
  | 101 => true
  | 102 => true
  | 103 => true
  | 105 => true
  | 200 => true
  | 201 => true
  | 202 => true
  | 205 => true
  | 301 => true
  | 401 => true
  | 501 => true
  | 607 => true
  | 609 => true
  | 611 => true
  | 613 => true
  | 614 => true
  | 615 => true
  | 704 => true
  | 705 => true
  | 706 => true
  | 707 => true
  | 710 => true
  | 713 => true
  | 801 => true
  | _ => false
def zc_ty : Nat → Nat → FieldType := fun ci k => match ci with
  | 0 => tyX1 k
  | 3 => tyX5 k
  | 4 => tyJ2 k
  | 6 => tyX8 k
  | 7 => tyX10 k
  | 8 => tyX11 k
  | 9 => tyX12 k
  | 10 => tyX13 k
  | 11 => tyX14 k
  | 12 => tyX15 k
  | 13 => tyX16 k
  | 14 => tyX17 k
  | 5 => (if k = 0 then .int else .object "java/lang/Object")
  | _ => .int
theorem zc_in : ∀ (ci : Nat) (r : vw_C), zc_cl[ci]? = some r → ∀ w ∈ u_ws r.1 r.2.1 r.2.2, w ∈ lw_all := by
  intro ci r h
  match ci, h with
  | 0, h => cases h; exact in_X1
  | 1, h => cases h; intro w hw; simp [u_ws] at hw
  | 2, h => cases h; intro w hw; simp [u_ws] at hw
  | 3, h => cases h; exact in_X5
  | 4, h => cases h; exact in_J2
  | 5, h => cases h; exact lw_in (u_ws RX7 zTR 2) [335, 282] (by decide +kernel) (by decide +kernel)
  | 6, h => cases h; exact in_X8
  | 7, h => cases h; exact in_X10
  | 8, h => cases h; exact in_X11
  | 9, h => cases h; exact in_X12
  | 10, h => cases h; exact in_X13
  | 11, h => cases h; exact in_X14
  | 12, h => cases h; exact in_X15
  | 13, h => cases h; exact in_X16
  | 14, h => cases h; exact in_X17
  | 15, h => cases h; intro w hw; simp [u_ws] at hw
  | n + 16, h => simp [zc_cl] at h
theorem zc_nm : ∀ (ci : Nat) (r : vw_C), zc_cl[ci]? = some r → ∀ a, a < r.2.2 → ∀ b, b < r.2.2 → a ≠ b → (r.2.1 a).2.1 ≠ (r.2.1 b).2.1 := by
  intro ci r h
  match ci, h with
  | 0, h => cases h; exact nmX1
  | 1, h => cases h; intro a ha; exact absurd ha (Nat.not_lt_zero a)
  | 2, h => cases h; intro a ha; exact absurd ha (Nat.not_lt_zero a)
  | 3, h => cases h; exact nmX5
  | 4, h => cases h; exact nmJ2
  | 5, h => cases h; exact (by decide +kernel : ∀ a, a < 2 → ∀ b, b < 2 → a ≠ b → (zTR a).2.1 ≠ (zTR b).2.1)
  | 6, h => cases h; exact nmX8
  | 7, h => cases h; exact nmX10
  | 8, h => cases h; exact nmX11
  | 9, h => cases h; exact nmX12
  | 10, h => cases h; exact nmX13
  | 11, h => cases h; exact nmX14
  | 12, h => cases h; exact nmX15
  | 13, h => cases h; exact nmX16
  | 14, h => cases h; exact nmX17
  | 15, h => cases h; intro a ha; exact absurd ha (Nat.not_lt_zero a)
  | n + 16, h => simp [zc_cl] at h
theorem zc_tyok : ∀ (ci : Nat) (r : vw_C), zc_cl[ci]? = some r → ∀ k, k < r.2.2 → parseFieldDescriptor (r.2.1 k).2.2.1 = some (zc_ty ci k) := by
  intro ci r h
  match ci, h with
  | 0, h => cases h; exact tyX1_ok
  | 1, h => cases h; intro k hk; exact absurd hk (Nat.not_lt_zero k)
  | 2, h => cases h; intro k hk; exact absurd hk (Nat.not_lt_zero k)
  | 3, h => cases h; exact tyX5_ok
  | 4, h => cases h; exact tyJ2_ok
  | 5, h => cases h; exact (by decide +kernel : ∀ k, k < 2 → parseFieldDescriptor (zTR k).2.2.1 = some (zc_ty 5 k))
  | 6, h => cases h; exact tyX8_ok
  | 7, h => cases h; exact tyX10_ok
  | 8, h => cases h; exact tyX11_ok
  | 9, h => cases h; exact tyX12_ok
  | 10, h => cases h; exact tyX13_ok
  | 11, h => cases h; exact tyX14_ok
  | 12, h => cases h; exact tyX15_ok
  | 13, h => cases h; exact tyX16_ok
  | 14, h => cases h; exact tyX17_ok
  | 15, h => cases h; intro k hk; exact absurd hk (Nat.not_lt_zero k)
  | n + 16, h => simp [zc_cl] at h
theorem zc_def : ∀ (ci : Nat) (r : vw_C), zc_cl[ci]? = some r → ∀ k, k < r.2.2 → defaultValue (zc_ty ci k) = (if zc_rf (zc_b ci + k) = true then .null else .int 0) := by
  intro ci r h
  match ci, h with
  | 0, h => cases h; exact (by decide +kernel : ∀ k, k < 8 → defaultValue (zc_ty 0 k) = (if zc_rf (zc_b 0 + k) = true then .null else .int 0))
  | 1, h => cases h; intro k hk; exact absurd hk (Nat.not_lt_zero k)
  | 2, h => cases h; intro k hk; exact absurd hk (Nat.not_lt_zero k)
  | 3, h => cases h; exact (by decide +kernel : ∀ k, k < 6 → defaultValue (zc_ty 3 k) = (if zc_rf (zc_b 3 + k) = true then .null else .int 0))
  | 4, h => cases h; exact (by decide +kernel : ∀ k, k < 3 → defaultValue (zc_ty 4 k) = (if zc_rf (zc_b 4 + k) = true then .null else .int 0))
  | 5, h => cases h; exact (by decide +kernel : ∀ k, k < 2 → defaultValue (zc_ty 5 k) = (if zc_rf (zc_b 5 + k) = true then .null else .int 0))
  | 6, h => cases h; exact (by decide +kernel : ∀ k, k < 3 → defaultValue (zc_ty 6 k) = (if zc_rf (zc_b 6 + k) = true then .null else .int 0))
  | 7, h => cases h; exact (by decide +kernel : ∀ k, k < 16 → defaultValue (zc_ty 7 k) = (if zc_rf (zc_b 7 + k) = true then .null else .int 0))
  | 8, h => cases h; exact (by decide +kernel : ∀ k, k < 16 → defaultValue (zc_ty 8 k) = (if zc_rf (zc_b 8 + k) = true then .null else .int 0))
  | 9, h => cases h; exact (by decide +kernel : ∀ k, k < 16 → defaultValue (zc_ty 9 k) = (if zc_rf (zc_b 9 + k) = true then .null else .int 0))
  | 10, h => cases h; exact (by decide +kernel : ∀ k, k < 16 → defaultValue (zc_ty 10 k) = (if zc_rf (zc_b 10 + k) = true then .null else .int 0))
  | 11, h => cases h; exact (by decide +kernel : ∀ k, k < 16 → defaultValue (zc_ty 11 k) = (if zc_rf (zc_b 11 + k) = true then .null else .int 0))
  | 12, h => cases h; exact (by decide +kernel : ∀ k, k < 16 → defaultValue (zc_ty 12 k) = (if zc_rf (zc_b 12 + k) = true then .null else .int 0))
  | 13, h => cases h; exact (by decide +kernel : ∀ k, k < 14 → defaultValue (zc_ty 13 k) = (if zc_rf (zc_b 13 + k) = true then .null else .int 0))
  | 14, h => cases h; exact (by decide +kernel : ∀ k, k < 2 → defaultValue (zc_ty 14 k) = (if zc_rf (zc_b 14 + k) = true then .null else .int 0))
  | 15, h => cases h; intro k hk; exact absurd hk (Nat.not_lt_zero k)
  | n + 16, h => simp [zc_cl] at h
def zc_aty : Nat → FieldType := fun k => match k with
  | 0 => .int
  | 1 => .boolean
  | 2 => .object "java/lang/Object"
  | 3 => .object "ChurchyardBook$Place"
  | 4 => .object "ChurchyardBook$Grave"
  | 5 => .object "ChurchyardBook$Wall"
  | 6 => .object "ChurchyardBook$Deep"
  | _ => .array (.object "ChurchyardBook$Place")
def zc_tys (cA : Nat → ClassId) : List (ClassId × FieldType) := (List.range 8).map (fun k => (cA k, zc_aty k))
theorem zc_tys_at (cA : Nat → ClassId) {k : Nat} (hk : k < 8) : (zc_tys cA)[k]? = some (cA k, zc_aty k) := by
  unfold zc_tys
  rw [List.getElem?_map, List.getElem?_range hk]
  rfl
def zc_val (h : ZH) (f a : Nat) : Value := if zc_rf f = true then va_rf (zr h f a) else .int (zi h f a)
def zc_g (k : Nat) : Nat := if 3 ≤ k ∧ k ≤ 6 then 3 else k
def zc_el (h : ZH) (k a j : Nat) : Value := if k < 2 then .int (zj h k a j) else va_rf (zs h (zc_g k) a j)
/-- nobody holds an object's monitor; a Refused has seven slots -/
def zc_mon (ci a : Nat) (H : Heap) : Prop := ∀ cell : Cell, H[a]? = some cell → cell.monitor = {} ∧ (ci = 5 → cell.slots.size = 7)
def zc_at (D : va_G) (cA : Nat → ClassId) (h : ZH) (a : Nat) (H : Heap) : Prop :=
  (∃ (ci : Nat) (r : vw_C), zt h a = ci + 1 ∧ zc_cl[ci]? = some r ∧ t_OB a (D.1 ci) r.2.2 (D.2 ci) H (fun k => zc_val h (zc_b ci + k) a) ∧ zc_mon ci a H) ∨
  (∃ k : Nat, k < 8 ∧ zt h a = 20 + k ∧ H[a]? = some (arrV (cA k) (zl h a) (fun j => zc_el h k a j)))
def zc_R (D : va_G) (cA : Nat → ClassId) (P : Nat → Prop) (h : ZH) (H : Heap) : Prop := ∀ a : Nat, zt h a ≠ 0 → zc_at D cA h a H ∧ (P a ∨ (20 ≤ zt h a ∧ zl h a = 0))
def zc_H (D : va_G) (cA : Nat → ClassId) (P : Nat → Prop) (h : ZH) (s : State) (H : Heap) (locs : List Loc) : Prop := zc_R D cA P h H ∧ va_S P s.heap H locs
theorem zc_at.kept {D : va_G} {cA : Nat → ClassId} {h : ZH} {a : Nat} {H H1 : Heap} (hq : H1[a]? = H[a]?) (k : zc_at D cA h a H) : zc_at D cA h a H1 := by
  rcases k with ⟨ci, r, h1, h2, h3, h4⟩ | ⟨k, h1, h2, h3⟩
  · exact Or.inl ⟨ci, r, h1, h2, h3.kept hq, fun cell hc => h4 cell (hq ▸ hc)⟩
  · exact Or.inr ⟨k, h1, h2, hq.trans h3⟩
theorem zc_at.lt {D : va_G} {cA : Nat → ClassId} {h : ZH} {a : Nat} {H : Heap} (k : zc_at D cA h a H) : a < H.size := by
  rcases k with ⟨ci, r, h1, h2, ⟨cell, h3, -⟩, -⟩ | ⟨k, h1, h2, h3⟩
  · exact (Array.getElem?_eq_some_iff.mp h3).1
  · exact (Array.getElem?_eq_some_iff.mp h3).1
theorem zc_cl_lt {ci : Nat} {r : vw_C} (h : zc_cl[ci]? = some r) : ci < 16 := (List.getElem?_eq_some_iff.mp h).1
/-- the same cell under another picture -/
theorem zc_at.same {D : va_G} {cA : Nat → ClassId} {h h' : ZH} {a : Nat} {H : Heap} (k : zc_at D cA h a H) (e1 : zt h' a = zt h a) (e2 : zl h' a = zl h a) (e3 : ∀ f, zc_val h' f a = zc_val h f a) (e4 : ∀ k j, zc_el h' k a j = zc_el h k a j) : zc_at D cA h' a H := by
  rcases k with ⟨ci, r, h1, h2, h3, h4⟩ | ⟨k, h1, h2, h3⟩
  · exact Or.inl ⟨ci, r, e1.trans h1, h2, h3.to (fun k _ => (e3 _).symm), h4⟩
  · refine Or.inr ⟨k, h1, e1.trans h2, h3.trans ?_⟩
    rw [e2]
    congr 2
    funext j
    exact (e4 k j).symm
/-- constants of a run: the class words that don't ride in the lists, the statics -/
def zc_casts : List (String × String) := [("java/lang/String", "java/lang/Object"), ("java/lang/NullPointerException", "java/lang/NullPointerException"), ("java/lang/NullPointerException", "java/lang/Object"), ("java/lang/ArrayIndexOutOfBoundsException", "java/lang/ArrayIndexOutOfBoundsException"), ("java/lang/ArrayIndexOutOfBoundsException", "java/lang/Object"), ("java/lang/ClassCastException", "java/lang/ClassCastException"), ("java/lang/ClassCastException", "java/lang/Object"), ("java/lang/ArrayStoreException", "java/lang/ArrayStoreException"), ("java/lang/ArrayStoreException", "java/lang/Object"), ("java/util/NoSuchElementException", "java/util/NoSuchElementException"), ("java/util/NoSuchElementException", "java/lang/Object"), ("java/util/ArrayList", "java/lang/Object"), ("java/lang/Throwable", "java/lang/Object"), ("java/lang/RuntimeException", "java/lang/Throwable"), ("java/lang/NegativeArraySizeException", "java/lang/NegativeArraySizeException"), ("java/lang/NegativeArraySizeException", "java/lang/Object"), ("ChurchyardBook", "java/lang/Object"), ("ChurchyardBook$Single", "ChurchyardBook$Takes"), ("ChurchyardBook$Single", "ChurchyardBook$Rests"), ("ChurchyardBook$Single", "ChurchyardBook$Ends"), ("ChurchyardBook$Single", "ChurchyardBook$Grave"), ("ChurchyardBook$Single", "java/lang/Object"), ("ChurchyardBook$Single", "ChurchyardBook$Place"), ("ChurchyardBook$Deep", "ChurchyardBook$Takes"), ("ChurchyardBook$Deep", "ChurchyardBook$Rests"), ("ChurchyardBook$Deep", "ChurchyardBook$Ends"), ("ChurchyardBook$Deep", "ChurchyardBook$Grave"), ("ChurchyardBook$Deep", "java/lang/Object"), ("ChurchyardBook$Deep", "ChurchyardBook$Place"), ("ChurchyardBook$Family", "ChurchyardBook$Takes"), ("ChurchyardBook$Family", "ChurchyardBook$Rests"), ("ChurchyardBook$Family", "ChurchyardBook$Ends"), ("ChurchyardBook$Family", "ChurchyardBook$Grave"), ("ChurchyardBook$Family", "ChurchyardBook$Deep"), ("ChurchyardBook$Family", "java/lang/Object"), ("ChurchyardBook$Family", "ChurchyardBook$Place"), ("ChurchyardBook$Wall", "ChurchyardBook$Takes"), ("ChurchyardBook$Wall", "ChurchyardBook$Rests"), ("ChurchyardBook$Wall", "ChurchyardBook$Ends"), ("ChurchyardBook$Wall", "ChurchyardBook$Grave"), ("ChurchyardBook$Wall", "java/lang/Object"), ("ChurchyardBook$Wall", "ChurchyardBook$Place"), ("ChurchyardBook$Meadow", "ChurchyardBook$Takes"), ("ChurchyardBook$Meadow", "ChurchyardBook$Rests"), ("ChurchyardBook$Meadow", "ChurchyardBook$Ends"), ("ChurchyardBook$Meadow", "ChurchyardBook$Grave"), ("ChurchyardBook$Meadow", "ChurchyardBook$Wall"), ("ChurchyardBook$Meadow", "java/lang/Object"), ("ChurchyardBook$Meadow", "ChurchyardBook$Place"), ("ChurchyardBook$Child", "ChurchyardBook$Takes"), ("ChurchyardBook$Child", "ChurchyardBook$Rests"), ("ChurchyardBook$Child", "ChurchyardBook$Ends"), ("ChurchyardBook$Child", "ChurchyardBook$Grave"), ("ChurchyardBook$Child", "java/lang/Object"), ("ChurchyardBook$Child", "ChurchyardBook$Place"), ("ChurchyardBook$Person", "java/lang/Object"), ("ChurchyardBook$Stay", "java/lang/Object"), ("ChurchyardBook$Place", "java/lang/Object"), ("ChurchyardBook$Tree", "java/lang/Object"), ("ChurchyardBook$Tree", "ChurchyardBook$Place"), ("ChurchyardBook$Way", "java/lang/Object"), ("ChurchyardBook$Way", "ChurchyardBook$Place"), ("ChurchyardBook$Book", "java/lang/Object"), ("ChurchyardBookModel", "java/lang/Object"), ("ChurchyardBook$Refused", "ChurchyardBook$Refused"), ("ChurchyardBook$Refused", "java/lang/Object"), ("ChurchyardBook$Field", "java/lang/Object"), ("ChurchyardBook$Grave", "java/lang/Object"), ("ChurchyardBook$Grave", "ChurchyardBook$Place"), ("[B", "java/lang/Object"), ("[I", "java/lang/Object"), ("[J", "java/lang/Object"), ("[LChurchyardBook$Deep;", "java/lang/Object"), ("[LChurchyardBook$Grave;", "java/lang/Object"), ("[LChurchyardBook$Place;", "java/lang/Object"), ("[LChurchyardBook$Wall;", "java/lang/Object"), ("[Ljava/lang/Object;", "java/lang/Object"), ("[Z", "java/lang/Object"), ("[[LChurchyardBook$Place;", "java/lang/Object"), ("[LChurchyardBook$Wall;", "[LChurchyardBook$Grave;"), ("[LChurchyardBook$Deep;", "[LChurchyardBook$Grave;"), ("[LChurchyardBook$Grave;", "[LChurchyardBook$Place;"), ("[LChurchyardBook$Wall;", "[LChurchyardBook$Place;"), ("[LChurchyardBook$Deep;", "[LChurchyardBook$Place;")]
def zc_nots : List (String × String) := [("ChurchyardBook", "ChurchyardBook$Refused"), ("ChurchyardBook$Tree", "ChurchyardBook$Refused"), ("ChurchyardBook$Way", "ChurchyardBook$Refused"), ("ChurchyardBook$Book", "ChurchyardBook$Refused"), ("java/util/ArrayList", "ChurchyardBook$Refused"), ("ChurchyardBookModel", "ChurchyardBook$Refused"), ("ChurchyardBook$Field", "ChurchyardBook$Refused"), ("java/lang/NegativeArraySizeException", "ChurchyardBook$Refused"), ("java/lang/NullPointerException", "ChurchyardBook$Refused"), ("java/lang/ArrayIndexOutOfBoundsException", "ChurchyardBook$Refused"), ("java/lang/ClassCastException", "ChurchyardBook$Refused"), ("java/lang/ArrayStoreException", "ChurchyardBook$Refused"), ("ChurchyardBook$Single", "ChurchyardBook$Refused"), ("ChurchyardBook$Deep", "ChurchyardBook$Refused"), ("ChurchyardBook$Family", "ChurchyardBook$Refused"), ("ChurchyardBook$Wall", "ChurchyardBook$Refused"), ("ChurchyardBook$Meadow", "ChurchyardBook$Refused"), ("ChurchyardBook$Child", "ChurchyardBook$Refused"), ("ChurchyardBook$Person", "ChurchyardBook$Refused"), ("ChurchyardBook$Stay", "ChurchyardBook$Refused"), ("java/util/NoSuchElementException", "ChurchyardBook$Refused"), ("ChurchyardBook", "java/lang/NegativeArraySizeException"), ("ChurchyardBook$Tree", "java/lang/NegativeArraySizeException"), ("ChurchyardBook$Way", "java/lang/NegativeArraySizeException"), ("ChurchyardBook$Book", "java/lang/NegativeArraySizeException"), ("java/util/ArrayList", "java/lang/NegativeArraySizeException"), ("ChurchyardBookModel", "java/lang/NegativeArraySizeException"), ("ChurchyardBook$Refused", "java/lang/NegativeArraySizeException"), ("ChurchyardBook$Field", "java/lang/NegativeArraySizeException"), ("java/lang/NullPointerException", "java/lang/NegativeArraySizeException"), ("java/lang/ArrayIndexOutOfBoundsException", "java/lang/NegativeArraySizeException"), ("java/lang/ClassCastException", "java/lang/NegativeArraySizeException"), ("java/lang/ArrayStoreException", "java/lang/NegativeArraySizeException"), ("ChurchyardBook$Single", "java/lang/NegativeArraySizeException"), ("ChurchyardBook$Deep", "java/lang/NegativeArraySizeException"), ("ChurchyardBook$Family", "java/lang/NegativeArraySizeException"), ("ChurchyardBook$Wall", "java/lang/NegativeArraySizeException"), ("ChurchyardBook$Meadow", "java/lang/NegativeArraySizeException"), ("ChurchyardBook$Child", "java/lang/NegativeArraySizeException"), ("ChurchyardBook$Person", "java/lang/NegativeArraySizeException"), ("ChurchyardBook$Stay", "java/lang/NegativeArraySizeException"), ("java/util/NoSuchElementException", "java/lang/NegativeArraySizeException"), ("ChurchyardBook", "java/lang/NullPointerException"), ("ChurchyardBook$Tree", "java/lang/NullPointerException"), ("ChurchyardBook$Way", "java/lang/NullPointerException"), ("ChurchyardBook$Book", "java/lang/NullPointerException"), ("java/util/ArrayList", "java/lang/NullPointerException"), ("ChurchyardBookModel", "java/lang/NullPointerException"), ("ChurchyardBook$Refused", "java/lang/NullPointerException"), ("ChurchyardBook$Field", "java/lang/NullPointerException"), ("java/lang/NegativeArraySizeException", "java/lang/NullPointerException"), ("java/lang/ArrayIndexOutOfBoundsException", "java/lang/NullPointerException"), ("java/lang/ClassCastException", "java/lang/NullPointerException"), ("java/lang/ArrayStoreException", "java/lang/NullPointerException"), ("ChurchyardBook$Single", "java/lang/NullPointerException"), ("ChurchyardBook$Deep", "java/lang/NullPointerException"), ("ChurchyardBook$Family", "java/lang/NullPointerException"), ("ChurchyardBook$Wall", "java/lang/NullPointerException"), ("ChurchyardBook$Meadow", "java/lang/NullPointerException"), ("ChurchyardBook$Child", "java/lang/NullPointerException"), ("ChurchyardBook$Person", "java/lang/NullPointerException"), ("ChurchyardBook$Stay", "java/lang/NullPointerException"), ("java/util/NoSuchElementException", "java/lang/NullPointerException"), ("ChurchyardBook", "ChurchyardBook$Grave"), ("ChurchyardBook$Tree", "ChurchyardBook$Grave"), ("ChurchyardBook$Way", "ChurchyardBook$Grave"), ("ChurchyardBook$Book", "ChurchyardBook$Grave"), ("java/util/ArrayList", "ChurchyardBook$Grave"), ("ChurchyardBookModel", "ChurchyardBook$Grave"), ("ChurchyardBook$Refused", "ChurchyardBook$Grave"), ("ChurchyardBook$Field", "ChurchyardBook$Grave"), ("java/lang/NegativeArraySizeException", "ChurchyardBook$Grave"), ("java/lang/NullPointerException", "ChurchyardBook$Grave"), ("java/lang/ArrayIndexOutOfBoundsException", "ChurchyardBook$Grave"), ("java/lang/ClassCastException", "ChurchyardBook$Grave"), ("java/lang/ArrayStoreException", "ChurchyardBook$Grave"), ("ChurchyardBook$Person", "ChurchyardBook$Grave"), ("ChurchyardBook$Stay", "ChurchyardBook$Grave"), ("java/util/NoSuchElementException", "ChurchyardBook$Grave"), ("ChurchyardBook", "java/lang/ArrayIndexOutOfBoundsException"), ("ChurchyardBook$Tree", "java/lang/ArrayIndexOutOfBoundsException"), ("ChurchyardBook$Way", "java/lang/ArrayIndexOutOfBoundsException"), ("ChurchyardBook$Book", "java/lang/ArrayIndexOutOfBoundsException"), ("java/util/ArrayList", "java/lang/ArrayIndexOutOfBoundsException"), ("ChurchyardBookModel", "java/lang/ArrayIndexOutOfBoundsException"), ("ChurchyardBook$Refused", "java/lang/ArrayIndexOutOfBoundsException"), ("ChurchyardBook$Field", "java/lang/ArrayIndexOutOfBoundsException"), ("java/lang/NegativeArraySizeException", "java/lang/ArrayIndexOutOfBoundsException"), ("java/lang/NullPointerException", "java/lang/ArrayIndexOutOfBoundsException"), ("java/lang/ClassCastException", "java/lang/ArrayIndexOutOfBoundsException"), ("java/lang/ArrayStoreException", "java/lang/ArrayIndexOutOfBoundsException"), ("ChurchyardBook$Single", "java/lang/ArrayIndexOutOfBoundsException"), ("ChurchyardBook$Deep", "java/lang/ArrayIndexOutOfBoundsException"), ("ChurchyardBook$Family", "java/lang/ArrayIndexOutOfBoundsException"), ("ChurchyardBook$Wall", "java/lang/ArrayIndexOutOfBoundsException"), ("ChurchyardBook$Meadow", "java/lang/ArrayIndexOutOfBoundsException"), ("ChurchyardBook$Child", "java/lang/ArrayIndexOutOfBoundsException"), ("ChurchyardBook$Person", "java/lang/ArrayIndexOutOfBoundsException"), ("ChurchyardBook$Stay", "java/lang/ArrayIndexOutOfBoundsException"), ("java/util/NoSuchElementException", "java/lang/ArrayIndexOutOfBoundsException"), ("ChurchyardBook", "java/lang/ClassCastException"), ("ChurchyardBook$Tree", "java/lang/ClassCastException"), ("ChurchyardBook$Way", "java/lang/ClassCastException"), ("ChurchyardBook$Book", "java/lang/ClassCastException"), ("java/util/ArrayList", "java/lang/ClassCastException"), ("ChurchyardBookModel", "java/lang/ClassCastException"), ("ChurchyardBook$Refused", "java/lang/ClassCastException"), ("ChurchyardBook$Field", "java/lang/ClassCastException"), ("java/lang/NegativeArraySizeException", "java/lang/ClassCastException"), ("java/lang/NullPointerException", "java/lang/ClassCastException"), ("java/lang/ArrayIndexOutOfBoundsException", "java/lang/ClassCastException"), ("java/lang/ArrayStoreException", "java/lang/ClassCastException"), ("ChurchyardBook$Single", "java/lang/ClassCastException"), ("ChurchyardBook$Deep", "java/lang/ClassCastException"), ("ChurchyardBook$Family", "java/lang/ClassCastException"), ("ChurchyardBook$Wall", "java/lang/ClassCastException"), ("ChurchyardBook$Meadow", "java/lang/ClassCastException"), ("ChurchyardBook$Child", "java/lang/ClassCastException"), ("ChurchyardBook$Person", "java/lang/ClassCastException"), ("ChurchyardBook$Stay", "java/lang/ClassCastException"), ("java/util/NoSuchElementException", "java/lang/ClassCastException"), ("ChurchyardBook", "ChurchyardBook$Takes"), ("ChurchyardBook$Tree", "ChurchyardBook$Takes"), ("ChurchyardBook$Way", "ChurchyardBook$Takes"), ("ChurchyardBook$Book", "ChurchyardBook$Takes"), ("java/util/ArrayList", "ChurchyardBook$Takes"), ("ChurchyardBookModel", "ChurchyardBook$Takes"), ("ChurchyardBook$Refused", "ChurchyardBook$Takes"), ("ChurchyardBook$Field", "ChurchyardBook$Takes"), ("java/lang/NegativeArraySizeException", "ChurchyardBook$Takes"), ("java/lang/NullPointerException", "ChurchyardBook$Takes"), ("java/lang/ArrayIndexOutOfBoundsException", "ChurchyardBook$Takes"), ("java/lang/ClassCastException", "ChurchyardBook$Takes"), ("java/lang/ArrayStoreException", "ChurchyardBook$Takes"), ("ChurchyardBook$Person", "ChurchyardBook$Takes"), ("ChurchyardBook$Stay", "ChurchyardBook$Takes"), ("java/util/NoSuchElementException", "ChurchyardBook$Takes"), ("ChurchyardBook", "java/lang/ArrayStoreException"), ("ChurchyardBook$Tree", "java/lang/ArrayStoreException"), ("ChurchyardBook$Way", "java/lang/ArrayStoreException"), ("ChurchyardBook$Book", "java/lang/ArrayStoreException"), ("java/util/ArrayList", "java/lang/ArrayStoreException"), ("ChurchyardBookModel", "java/lang/ArrayStoreException"), ("ChurchyardBook$Refused", "java/lang/ArrayStoreException"), ("ChurchyardBook$Field", "java/lang/ArrayStoreException"), ("java/lang/NegativeArraySizeException", "java/lang/ArrayStoreException"), ("java/lang/NullPointerException", "java/lang/ArrayStoreException"), ("java/lang/ArrayIndexOutOfBoundsException", "java/lang/ArrayStoreException"), ("java/lang/ClassCastException", "java/lang/ArrayStoreException"), ("ChurchyardBook$Single", "java/lang/ArrayStoreException"), ("ChurchyardBook$Deep", "java/lang/ArrayStoreException"), ("ChurchyardBook$Family", "java/lang/ArrayStoreException"), ("ChurchyardBook$Wall", "java/lang/ArrayStoreException"), ("ChurchyardBook$Meadow", "java/lang/ArrayStoreException"), ("ChurchyardBook$Child", "java/lang/ArrayStoreException"), ("ChurchyardBook$Person", "java/lang/ArrayStoreException"), ("ChurchyardBook$Stay", "java/lang/ArrayStoreException"), ("java/util/NoSuchElementException", "java/lang/ArrayStoreException"), ("ChurchyardBook", "ChurchyardBook$Tree"), ("ChurchyardBook$Way", "ChurchyardBook$Tree"), ("ChurchyardBook$Book", "ChurchyardBook$Tree"), ("java/util/ArrayList", "ChurchyardBook$Tree"), ("ChurchyardBookModel", "ChurchyardBook$Tree"), ("ChurchyardBook$Refused", "ChurchyardBook$Tree"), ("ChurchyardBook$Field", "ChurchyardBook$Tree"), ("java/lang/NegativeArraySizeException", "ChurchyardBook$Tree"), ("java/lang/NullPointerException", "ChurchyardBook$Tree"), ("java/lang/ArrayIndexOutOfBoundsException", "ChurchyardBook$Tree"), ("java/lang/ClassCastException", "ChurchyardBook$Tree"), ("java/lang/ArrayStoreException", "ChurchyardBook$Tree"), ("ChurchyardBook$Single", "ChurchyardBook$Tree"), ("ChurchyardBook$Deep", "ChurchyardBook$Tree"), ("ChurchyardBook$Family", "ChurchyardBook$Tree"), ("ChurchyardBook$Wall", "ChurchyardBook$Tree"), ("ChurchyardBook$Meadow", "ChurchyardBook$Tree"), ("ChurchyardBook$Child", "ChurchyardBook$Tree"), ("ChurchyardBook$Person", "ChurchyardBook$Tree"), ("ChurchyardBook$Stay", "ChurchyardBook$Tree"), ("java/util/NoSuchElementException", "ChurchyardBook$Tree"), ("ChurchyardBook", "ChurchyardBook$Wall"), ("ChurchyardBook$Tree", "ChurchyardBook$Wall"), ("ChurchyardBook$Way", "ChurchyardBook$Wall"), ("ChurchyardBook$Book", "ChurchyardBook$Wall"), ("java/util/ArrayList", "ChurchyardBook$Wall"), ("ChurchyardBookModel", "ChurchyardBook$Wall"), ("ChurchyardBook$Refused", "ChurchyardBook$Wall"), ("ChurchyardBook$Field", "ChurchyardBook$Wall"), ("java/lang/NegativeArraySizeException", "ChurchyardBook$Wall"), ("java/lang/NullPointerException", "ChurchyardBook$Wall"), ("java/lang/ArrayIndexOutOfBoundsException", "ChurchyardBook$Wall"), ("java/lang/ClassCastException", "ChurchyardBook$Wall"), ("java/lang/ArrayStoreException", "ChurchyardBook$Wall"), ("ChurchyardBook$Single", "ChurchyardBook$Wall"), ("ChurchyardBook$Deep", "ChurchyardBook$Wall"), ("ChurchyardBook$Family", "ChurchyardBook$Wall"), ("ChurchyardBook$Child", "ChurchyardBook$Wall"), ("ChurchyardBook$Person", "ChurchyardBook$Wall"), ("ChurchyardBook$Stay", "ChurchyardBook$Wall"), ("java/util/NoSuchElementException", "ChurchyardBook$Wall"), ("ChurchyardBook", "ChurchyardBook$Deep"), ("ChurchyardBook$Tree", "ChurchyardBook$Deep"), ("ChurchyardBook$Way", "ChurchyardBook$Deep"), ("ChurchyardBook$Book", "ChurchyardBook$Deep"), ("java/util/ArrayList", "ChurchyardBook$Deep"), ("ChurchyardBookModel", "ChurchyardBook$Deep"), ("ChurchyardBook$Refused", "ChurchyardBook$Deep"), ("ChurchyardBook$Field", "ChurchyardBook$Deep"), ("java/lang/NegativeArraySizeException", "ChurchyardBook$Deep"), ("java/lang/NullPointerException", "ChurchyardBook$Deep"), ("java/lang/ArrayIndexOutOfBoundsException", "ChurchyardBook$Deep"), ("java/lang/ClassCastException", "ChurchyardBook$Deep"), ("java/lang/ArrayStoreException", "ChurchyardBook$Deep"), ("ChurchyardBook$Single", "ChurchyardBook$Deep"), ("ChurchyardBook$Wall", "ChurchyardBook$Deep"), ("ChurchyardBook$Meadow", "ChurchyardBook$Deep"), ("ChurchyardBook$Child", "ChurchyardBook$Deep"), ("ChurchyardBook$Person", "ChurchyardBook$Deep"), ("ChurchyardBook$Stay", "ChurchyardBook$Deep"), ("java/util/NoSuchElementException", "ChurchyardBook$Deep"), ("ChurchyardBook", "ChurchyardBook$Meadow"), ("ChurchyardBook$Tree", "ChurchyardBook$Meadow"), ("ChurchyardBook$Way", "ChurchyardBook$Meadow"), ("ChurchyardBook$Book", "ChurchyardBook$Meadow"), ("java/util/ArrayList", "ChurchyardBook$Meadow"), ("ChurchyardBookModel", "ChurchyardBook$Meadow"), ("ChurchyardBook$Refused", "ChurchyardBook$Meadow"), ("ChurchyardBook$Field", "ChurchyardBook$Meadow"), ("java/lang/NegativeArraySizeException", "ChurchyardBook$Meadow"), ("java/lang/NullPointerException", "ChurchyardBook$Meadow"), ("java/lang/ArrayIndexOutOfBoundsException", "ChurchyardBook$Meadow"), ("java/lang/ClassCastException", "ChurchyardBook$Meadow"), ("java/lang/ArrayStoreException", "ChurchyardBook$Meadow"), ("ChurchyardBook$Single", "ChurchyardBook$Meadow"), ("ChurchyardBook$Deep", "ChurchyardBook$Meadow"), ("ChurchyardBook$Family", "ChurchyardBook$Meadow"), ("ChurchyardBook$Wall", "ChurchyardBook$Meadow"), ("ChurchyardBook$Child", "ChurchyardBook$Meadow"), ("ChurchyardBook$Person", "ChurchyardBook$Meadow"), ("ChurchyardBook$Stay", "ChurchyardBook$Meadow"), ("java/util/NoSuchElementException", "ChurchyardBook$Meadow"), ("ChurchyardBook", "java/util/NoSuchElementException"), ("ChurchyardBook$Tree", "java/util/NoSuchElementException"), ("ChurchyardBook$Way", "java/util/NoSuchElementException"), ("ChurchyardBook$Book", "java/util/NoSuchElementException"), ("java/util/ArrayList", "java/util/NoSuchElementException"), ("ChurchyardBookModel", "java/util/NoSuchElementException"), ("ChurchyardBook$Refused", "java/util/NoSuchElementException"), ("ChurchyardBook$Field", "java/util/NoSuchElementException"), ("java/lang/NegativeArraySizeException", "java/util/NoSuchElementException"), ("java/lang/NullPointerException", "java/util/NoSuchElementException"), ("java/lang/ArrayIndexOutOfBoundsException", "java/util/NoSuchElementException"), ("java/lang/ClassCastException", "java/util/NoSuchElementException"), ("java/lang/ArrayStoreException", "java/util/NoSuchElementException"), ("ChurchyardBook$Single", "java/util/NoSuchElementException"), ("ChurchyardBook$Deep", "java/util/NoSuchElementException"), ("ChurchyardBook$Family", "java/util/NoSuchElementException"), ("ChurchyardBook$Wall", "java/util/NoSuchElementException"), ("ChurchyardBook$Meadow", "java/util/NoSuchElementException"), ("ChurchyardBook$Child", "java/util/NoSuchElementException"), ("ChurchyardBook$Person", "java/util/NoSuchElementException"), ("ChurchyardBook$Stay", "java/util/NoSuchElementException"), ("ChurchyardBook", "ChurchyardBook$Field"), ("ChurchyardBook$Tree", "ChurchyardBook$Field"), ("ChurchyardBook$Way", "ChurchyardBook$Field"), ("ChurchyardBook$Book", "ChurchyardBook$Field"), ("java/util/ArrayList", "ChurchyardBook$Field"), ("ChurchyardBookModel", "ChurchyardBook$Field"), ("ChurchyardBook$Refused", "ChurchyardBook$Field"), ("java/lang/NegativeArraySizeException", "ChurchyardBook$Field"), ("java/lang/NullPointerException", "ChurchyardBook$Field"), ("java/lang/ArrayIndexOutOfBoundsException", "ChurchyardBook$Field"), ("java/lang/ClassCastException", "ChurchyardBook$Field"), ("java/lang/ArrayStoreException", "ChurchyardBook$Field"), ("ChurchyardBook$Single", "ChurchyardBook$Field"), ("ChurchyardBook$Deep", "ChurchyardBook$Field"), ("ChurchyardBook$Family", "ChurchyardBook$Field"), ("ChurchyardBook$Wall", "ChurchyardBook$Field"), ("ChurchyardBook$Meadow", "ChurchyardBook$Field"), ("ChurchyardBook$Child", "ChurchyardBook$Field"), ("ChurchyardBook$Person", "ChurchyardBook$Field"), ("ChurchyardBook$Stay", "ChurchyardBook$Field"), ("java/util/NoSuchElementException", "ChurchyardBook$Field"), ("ChurchyardBook", "ChurchyardBook$Person"), ("ChurchyardBook$Tree", "ChurchyardBook$Person"), ("ChurchyardBook$Way", "ChurchyardBook$Person"), ("ChurchyardBook$Book", "ChurchyardBook$Person"), ("java/util/ArrayList", "ChurchyardBook$Person"), ("ChurchyardBookModel", "ChurchyardBook$Person"), ("ChurchyardBook$Refused", "ChurchyardBook$Person"), ("ChurchyardBook$Field", "ChurchyardBook$Person"), ("java/lang/NegativeArraySizeException", "ChurchyardBook$Person"), ("java/lang/NullPointerException", "ChurchyardBook$Person"), ("java/lang/ArrayIndexOutOfBoundsException", "ChurchyardBook$Person"), ("java/lang/ClassCastException", "ChurchyardBook$Person"), ("java/lang/ArrayStoreException", "ChurchyardBook$Person"), ("ChurchyardBook$Single", "ChurchyardBook$Person"), ("ChurchyardBook$Deep", "ChurchyardBook$Person"), ("ChurchyardBook$Family", "ChurchyardBook$Person"), ("ChurchyardBook$Wall", "ChurchyardBook$Person"), ("ChurchyardBook$Meadow", "ChurchyardBook$Person"), ("ChurchyardBook$Child", "ChurchyardBook$Person"), ("ChurchyardBook$Stay", "ChurchyardBook$Person"), ("java/util/NoSuchElementException", "ChurchyardBook$Person"), ("ChurchyardBook", "ChurchyardBook$Stay"), ("ChurchyardBook$Tree", "ChurchyardBook$Stay"), ("ChurchyardBook$Way", "ChurchyardBook$Stay"), ("ChurchyardBook$Book", "ChurchyardBook$Stay"), ("java/util/ArrayList", "ChurchyardBook$Stay"), ("ChurchyardBookModel", "ChurchyardBook$Stay"), ("ChurchyardBook$Refused", "ChurchyardBook$Stay"), ("ChurchyardBook$Field", "ChurchyardBook$Stay"), ("java/lang/NegativeArraySizeException", "ChurchyardBook$Stay"), ("java/lang/NullPointerException", "ChurchyardBook$Stay"), ("java/lang/ArrayIndexOutOfBoundsException", "ChurchyardBook$Stay"), ("java/lang/ClassCastException", "ChurchyardBook$Stay"), ("java/lang/ArrayStoreException", "ChurchyardBook$Stay"), ("ChurchyardBook$Single", "ChurchyardBook$Stay"), ("ChurchyardBook$Deep", "ChurchyardBook$Stay"), ("ChurchyardBook$Family", "ChurchyardBook$Stay"), ("ChurchyardBook$Wall", "ChurchyardBook$Stay"), ("ChurchyardBook$Meadow", "ChurchyardBook$Stay"), ("ChurchyardBook$Child", "ChurchyardBook$Stay"), ("ChurchyardBook$Person", "ChurchyardBook$Stay"), ("java/util/NoSuchElementException", "ChurchyardBook$Stay"), ("java/lang/Throwable", "ChurchyardBook$Field"), ("java/lang/String", "ChurchyardBook$Field"), ("[Ljava/lang/Object;", "ChurchyardBook$Field"), ("[I", "ChurchyardBook$Field"), ("[[LChurchyardBook$Place;", "ChurchyardBook$Field"), ("[LChurchyardBook$Place;", "ChurchyardBook$Field"), ("[B", "ChurchyardBook$Field"), ("[LChurchyardBook$Grave;", "ChurchyardBook$Field"), ("[LChurchyardBook$Wall;", "ChurchyardBook$Field"), ("[LChurchyardBook$Deep;", "ChurchyardBook$Field"), ("[Z", "ChurchyardBook$Field"), ("[J", "ChurchyardBook$Field"), ("java/lang/Throwable", "ChurchyardBook$Grave"), ("java/lang/String", "ChurchyardBook$Grave"), ("[Ljava/lang/Object;", "ChurchyardBook$Grave"), ("[I", "ChurchyardBook$Grave"), ("[[LChurchyardBook$Place;", "ChurchyardBook$Grave"), ("[LChurchyardBook$Place;", "ChurchyardBook$Grave"), ("[B", "ChurchyardBook$Grave"), ("[LChurchyardBook$Grave;", "ChurchyardBook$Grave"), ("[LChurchyardBook$Wall;", "ChurchyardBook$Grave"), ("[LChurchyardBook$Deep;", "ChurchyardBook$Grave"), ("[Z", "ChurchyardBook$Grave"), ("[J", "ChurchyardBook$Grave"), ("java/lang/Throwable", "ChurchyardBook$Takes"), ("java/lang/String", "ChurchyardBook$Takes"), ("[Ljava/lang/Object;", "ChurchyardBook$Takes"), ("[I", "ChurchyardBook$Takes"), ("[[LChurchyardBook$Place;", "ChurchyardBook$Takes"), ("[LChurchyardBook$Place;", "ChurchyardBook$Takes"), ("[B", "ChurchyardBook$Takes"), ("[LChurchyardBook$Grave;", "ChurchyardBook$Takes"), ("[LChurchyardBook$Wall;", "ChurchyardBook$Takes"), ("[LChurchyardBook$Deep;", "ChurchyardBook$Takes"), ("[Z", "ChurchyardBook$Takes"), ("[J", "ChurchyardBook$Takes"), ("java/lang/Throwable", "ChurchyardBook$Tree"), ("java/lang/String", "ChurchyardBook$Tree"), ("[Ljava/lang/Object;", "ChurchyardBook$Tree"), ("[I", "ChurchyardBook$Tree"), ("[[LChurchyardBook$Place;", "ChurchyardBook$Tree"), ("[LChurchyardBook$Place;", "ChurchyardBook$Tree"), ("[B", "ChurchyardBook$Tree"), ("[LChurchyardBook$Grave;", "ChurchyardBook$Tree"), ("[LChurchyardBook$Wall;", "ChurchyardBook$Tree"), ("[LChurchyardBook$Deep;", "ChurchyardBook$Tree"), ("[Z", "ChurchyardBook$Tree"), ("[J", "ChurchyardBook$Tree"), ("java/lang/Throwable", "ChurchyardBook$Person"), ("java/lang/String", "ChurchyardBook$Person"), ("[Ljava/lang/Object;", "ChurchyardBook$Person"), ("[I", "ChurchyardBook$Person"), ("[[LChurchyardBook$Place;", "ChurchyardBook$Person"), ("[LChurchyardBook$Place;", "ChurchyardBook$Person"), ("[B", "ChurchyardBook$Person"), ("[LChurchyardBook$Grave;", "ChurchyardBook$Person"), ("[LChurchyardBook$Wall;", "ChurchyardBook$Person"), ("[LChurchyardBook$Deep;", "ChurchyardBook$Person"), ("[Z", "ChurchyardBook$Person"), ("[J", "ChurchyardBook$Person"), ("ChurchyardBook$Place", "ChurchyardBook$Wall"), ("ChurchyardBook$Grave", "ChurchyardBook$Wall"), ("ChurchyardBook", "[LChurchyardBook$Wall;"), ("ChurchyardBook$Tree", "[LChurchyardBook$Wall;"), ("ChurchyardBook$Way", "[LChurchyardBook$Wall;"), ("ChurchyardBook$Book", "[LChurchyardBook$Wall;"), ("java/util/ArrayList", "[LChurchyardBook$Wall;"), ("ChurchyardBookModel", "[LChurchyardBook$Wall;"), ("ChurchyardBook$Refused", "[LChurchyardBook$Wall;"), ("ChurchyardBook$Field", "[LChurchyardBook$Wall;"), ("java/lang/NegativeArraySizeException", "[LChurchyardBook$Wall;"), ("java/lang/NullPointerException", "[LChurchyardBook$Wall;"), ("java/lang/ArrayIndexOutOfBoundsException", "[LChurchyardBook$Wall;"), ("java/lang/ClassCastException", "[LChurchyardBook$Wall;"), ("java/lang/ArrayStoreException", "[LChurchyardBook$Wall;"), ("ChurchyardBook$Single", "[LChurchyardBook$Wall;"), ("ChurchyardBook$Deep", "[LChurchyardBook$Wall;"), ("ChurchyardBook$Family", "[LChurchyardBook$Wall;"), ("ChurchyardBook$Wall", "[LChurchyardBook$Wall;"), ("ChurchyardBook$Meadow", "[LChurchyardBook$Wall;"), ("ChurchyardBook$Child", "[LChurchyardBook$Wall;"), ("ChurchyardBook$Person", "[LChurchyardBook$Wall;"), ("ChurchyardBook$Stay", "[LChurchyardBook$Wall;"), ("java/util/NoSuchElementException", "[LChurchyardBook$Wall;"), ("java/lang/Throwable", "[LChurchyardBook$Wall;"), ("java/lang/String", "[LChurchyardBook$Wall;"), ("[Ljava/lang/Object;", "[LChurchyardBook$Wall;"), ("[I", "[LChurchyardBook$Wall;"), ("[[LChurchyardBook$Place;", "[LChurchyardBook$Wall;"), ("[LChurchyardBook$Place;", "[LChurchyardBook$Wall;"), ("[B", "[LChurchyardBook$Wall;"), ("[LChurchyardBook$Grave;", "[LChurchyardBook$Wall;"), ("[LChurchyardBook$Deep;", "[LChurchyardBook$Wall;"), ("[Z", "[LChurchyardBook$Wall;"), ("[J", "[LChurchyardBook$Wall;"), ("java/lang/Throwable", "ChurchyardBook$Wall"), ("java/lang/String", "ChurchyardBook$Wall"), ("[Ljava/lang/Object;", "ChurchyardBook$Wall"), ("[I", "ChurchyardBook$Wall"), ("[[LChurchyardBook$Place;", "ChurchyardBook$Wall"), ("[LChurchyardBook$Place;", "ChurchyardBook$Wall"), ("[B", "ChurchyardBook$Wall"), ("[LChurchyardBook$Grave;", "ChurchyardBook$Wall"), ("[LChurchyardBook$Wall;", "ChurchyardBook$Wall"), ("[LChurchyardBook$Deep;", "ChurchyardBook$Wall"), ("[Z", "ChurchyardBook$Wall"), ("[J", "ChurchyardBook$Wall"), ("ChurchyardBook$Place", "ChurchyardBook$Deep"), ("ChurchyardBook$Grave", "ChurchyardBook$Deep"), ("ChurchyardBook", "[LChurchyardBook$Deep;"), ("ChurchyardBook$Tree", "[LChurchyardBook$Deep;"), ("ChurchyardBook$Way", "[LChurchyardBook$Deep;"), ("ChurchyardBook$Book", "[LChurchyardBook$Deep;"), ("java/util/ArrayList", "[LChurchyardBook$Deep;"), ("ChurchyardBookModel", "[LChurchyardBook$Deep;"), ("ChurchyardBook$Refused", "[LChurchyardBook$Deep;"), ("ChurchyardBook$Field", "[LChurchyardBook$Deep;"), ("java/lang/NegativeArraySizeException", "[LChurchyardBook$Deep;"), ("java/lang/NullPointerException", "[LChurchyardBook$Deep;"), ("java/lang/ArrayIndexOutOfBoundsException", "[LChurchyardBook$Deep;"), ("java/lang/ClassCastException", "[LChurchyardBook$Deep;"), ("java/lang/ArrayStoreException", "[LChurchyardBook$Deep;"), ("ChurchyardBook$Single", "[LChurchyardBook$Deep;"), ("ChurchyardBook$Deep", "[LChurchyardBook$Deep;"), ("ChurchyardBook$Family", "[LChurchyardBook$Deep;"), ("ChurchyardBook$Wall", "[LChurchyardBook$Deep;"), ("ChurchyardBook$Meadow", "[LChurchyardBook$Deep;"), ("ChurchyardBook$Child", "[LChurchyardBook$Deep;"), ("ChurchyardBook$Person", "[LChurchyardBook$Deep;"), ("ChurchyardBook$Stay", "[LChurchyardBook$Deep;"), ("java/util/NoSuchElementException", "[LChurchyardBook$Deep;"), ("java/lang/Throwable", "[LChurchyardBook$Deep;"), ("java/lang/String", "[LChurchyardBook$Deep;"), ("[Ljava/lang/Object;", "[LChurchyardBook$Deep;"), ("[I", "[LChurchyardBook$Deep;"), ("[[LChurchyardBook$Place;", "[LChurchyardBook$Deep;"), ("[LChurchyardBook$Place;", "[LChurchyardBook$Deep;"), ("[B", "[LChurchyardBook$Deep;"), ("[LChurchyardBook$Grave;", "[LChurchyardBook$Deep;"), ("[LChurchyardBook$Wall;", "[LChurchyardBook$Deep;"), ("[Z", "[LChurchyardBook$Deep;"), ("[J", "[LChurchyardBook$Deep;"), ("java/lang/Throwable", "ChurchyardBook$Deep"), ("java/lang/String", "ChurchyardBook$Deep"), ("[Ljava/lang/Object;", "ChurchyardBook$Deep"), ("[I", "ChurchyardBook$Deep"), ("[[LChurchyardBook$Place;", "ChurchyardBook$Deep"), ("[LChurchyardBook$Place;", "ChurchyardBook$Deep"), ("[B", "ChurchyardBook$Deep"), ("[LChurchyardBook$Grave;", "ChurchyardBook$Deep"), ("[LChurchyardBook$Wall;", "ChurchyardBook$Deep"), ("[LChurchyardBook$Deep;", "ChurchyardBook$Deep"), ("[Z", "ChurchyardBook$Deep"), ("[J", "ChurchyardBook$Deep"), ("ChurchyardBook$Place", "ChurchyardBook$Grave"), ("ChurchyardBook", "[LChurchyardBook$Grave;"), ("ChurchyardBook$Tree", "[LChurchyardBook$Grave;"), ("ChurchyardBook$Way", "[LChurchyardBook$Grave;"), ("ChurchyardBook$Book", "[LChurchyardBook$Grave;"), ("java/util/ArrayList", "[LChurchyardBook$Grave;"), ("ChurchyardBookModel", "[LChurchyardBook$Grave;"), ("ChurchyardBook$Refused", "[LChurchyardBook$Grave;"), ("ChurchyardBook$Field", "[LChurchyardBook$Grave;"), ("java/lang/NegativeArraySizeException", "[LChurchyardBook$Grave;"), ("java/lang/NullPointerException", "[LChurchyardBook$Grave;"), ("java/lang/ArrayIndexOutOfBoundsException", "[LChurchyardBook$Grave;"), ("java/lang/ClassCastException", "[LChurchyardBook$Grave;"), ("java/lang/ArrayStoreException", "[LChurchyardBook$Grave;"), ("ChurchyardBook$Single", "[LChurchyardBook$Grave;"), ("ChurchyardBook$Deep", "[LChurchyardBook$Grave;"), ("ChurchyardBook$Family", "[LChurchyardBook$Grave;"), ("ChurchyardBook$Wall", "[LChurchyardBook$Grave;"), ("ChurchyardBook$Meadow", "[LChurchyardBook$Grave;"), ("ChurchyardBook$Child", "[LChurchyardBook$Grave;"), ("ChurchyardBook$Person", "[LChurchyardBook$Grave;"), ("ChurchyardBook$Stay", "[LChurchyardBook$Grave;"), ("java/util/NoSuchElementException", "[LChurchyardBook$Grave;"), ("java/lang/Throwable", "[LChurchyardBook$Grave;"), ("java/lang/String", "[LChurchyardBook$Grave;"), ("[Ljava/lang/Object;", "[LChurchyardBook$Grave;"), ("[I", "[LChurchyardBook$Grave;"), ("[[LChurchyardBook$Place;", "[LChurchyardBook$Grave;"), ("[LChurchyardBook$Place;", "[LChurchyardBook$Grave;"), ("[B", "[LChurchyardBook$Grave;"), ("[Z", "[LChurchyardBook$Grave;"), ("[J", "[LChurchyardBook$Grave;"), ("java/lang/Throwable", "ChurchyardBook$Meadow"), ("java/lang/String", "ChurchyardBook$Meadow"), ("[Ljava/lang/Object;", "ChurchyardBook$Meadow"), ("[I", "ChurchyardBook$Meadow"), ("[[LChurchyardBook$Place;", "ChurchyardBook$Meadow"), ("[LChurchyardBook$Place;", "ChurchyardBook$Meadow"), ("[B", "ChurchyardBook$Meadow"), ("[LChurchyardBook$Grave;", "ChurchyardBook$Meadow"), ("[LChurchyardBook$Wall;", "ChurchyardBook$Meadow"), ("[LChurchyardBook$Deep;", "ChurchyardBook$Meadow"), ("[Z", "ChurchyardBook$Meadow"), ("[J", "ChurchyardBook$Meadow"), ("java/lang/Throwable", "ChurchyardBook$Stay"), ("java/lang/String", "ChurchyardBook$Stay"), ("[Ljava/lang/Object;", "ChurchyardBook$Stay"), ("[I", "ChurchyardBook$Stay"), ("[[LChurchyardBook$Place;", "ChurchyardBook$Stay"), ("[LChurchyardBook$Place;", "ChurchyardBook$Stay"), ("[B", "ChurchyardBook$Stay"), ("[LChurchyardBook$Grave;", "ChurchyardBook$Stay"), ("[LChurchyardBook$Wall;", "ChurchyardBook$Stay"), ("[LChurchyardBook$Deep;", "ChurchyardBook$Stay"), ("[Z", "ChurchyardBook$Stay"), ("[J", "ChurchyardBook$Stay"), ("ChurchyardBook", "ChurchyardBook$Place"), ("ChurchyardBook$Book", "ChurchyardBook$Place"), ("java/util/ArrayList", "ChurchyardBook$Place"), ("ChurchyardBookModel", "ChurchyardBook$Place"), ("ChurchyardBook$Refused", "ChurchyardBook$Place"), ("ChurchyardBook$Field", "ChurchyardBook$Place"), ("java/lang/NegativeArraySizeException", "ChurchyardBook$Place"), ("java/lang/NullPointerException", "ChurchyardBook$Place"), ("java/lang/ArrayIndexOutOfBoundsException", "ChurchyardBook$Place"), ("java/lang/ClassCastException", "ChurchyardBook$Place"), ("java/lang/ArrayStoreException", "ChurchyardBook$Place"), ("ChurchyardBook$Person", "ChurchyardBook$Place"), ("ChurchyardBook$Stay", "ChurchyardBook$Place"), ("java/util/NoSuchElementException", "ChurchyardBook$Place"), ("java/lang/Throwable", "ChurchyardBook$Place"), ("java/lang/String", "ChurchyardBook$Place"), ("[Ljava/lang/Object;", "ChurchyardBook$Place"), ("[I", "ChurchyardBook$Place"), ("[[LChurchyardBook$Place;", "ChurchyardBook$Place"), ("[LChurchyardBook$Place;", "ChurchyardBook$Place"), ("[B", "ChurchyardBook$Place"), ("[LChurchyardBook$Grave;", "ChurchyardBook$Place"), ("[LChurchyardBook$Wall;", "ChurchyardBook$Place"), ("[LChurchyardBook$Deep;", "ChurchyardBook$Place"), ("[Z", "ChurchyardBook$Place"), ("[J", "ChurchyardBook$Place"), ("ChurchyardBook", "[LChurchyardBook$Place;"), ("ChurchyardBook$Tree", "[LChurchyardBook$Place;"), ("ChurchyardBook$Way", "[LChurchyardBook$Place;"), ("ChurchyardBook$Book", "[LChurchyardBook$Place;"), ("java/util/ArrayList", "[LChurchyardBook$Place;"), ("ChurchyardBookModel", "[LChurchyardBook$Place;"), ("ChurchyardBook$Refused", "[LChurchyardBook$Place;"), ("ChurchyardBook$Field", "[LChurchyardBook$Place;"), ("java/lang/NegativeArraySizeException", "[LChurchyardBook$Place;"), ("java/lang/NullPointerException", "[LChurchyardBook$Place;"), ("java/lang/ArrayIndexOutOfBoundsException", "[LChurchyardBook$Place;"), ("java/lang/ClassCastException", "[LChurchyardBook$Place;"), ("java/lang/ArrayStoreException", "[LChurchyardBook$Place;"), ("ChurchyardBook$Single", "[LChurchyardBook$Place;"), ("ChurchyardBook$Deep", "[LChurchyardBook$Place;"), ("ChurchyardBook$Family", "[LChurchyardBook$Place;"), ("ChurchyardBook$Wall", "[LChurchyardBook$Place;"), ("ChurchyardBook$Meadow", "[LChurchyardBook$Place;"), ("ChurchyardBook$Child", "[LChurchyardBook$Place;"), ("ChurchyardBook$Person", "[LChurchyardBook$Place;"), ("ChurchyardBook$Stay", "[LChurchyardBook$Place;"), ("java/util/NoSuchElementException", "[LChurchyardBook$Place;"), ("java/lang/Throwable", "[LChurchyardBook$Place;"), ("java/lang/String", "[LChurchyardBook$Place;"), ("ChurchyardBook$Place", "[LChurchyardBook$Place;"), ("ChurchyardBook$Grave", "[LChurchyardBook$Place;"), ("[Ljava/lang/Object;", "[LChurchyardBook$Place;"), ("[I", "[LChurchyardBook$Place;"), ("[[LChurchyardBook$Place;", "[LChurchyardBook$Place;"), ("[B", "[LChurchyardBook$Place;"), ("[Z", "[LChurchyardBook$Place;"), ("[J", "[LChurchyardBook$Place;")]
def zc_mln : List (String × Nat × MethodName × String) := [("ChurchyardBook", 9, ⟨"ChurchyardBook$Tree", "<init>", "()V"⟩, "ChurchyardBook"), ("ChurchyardBook", 18, ⟨"ChurchyardBook$Way", "<init>", "()V"⟩, "ChurchyardBook"), ("ChurchyardBook", 25, ⟨"ChurchyardBook$Book", "<init>", "(LChurchyardBook;)V"⟩, "ChurchyardBook"), ("ChurchyardBook$Tree", 1, ⟨"ChurchyardBook$Place", "<init>", "()V"⟩, "ChurchyardBook"), ("ChurchyardBook$Way", 1, ⟨"ChurchyardBook$Place", "<init>", "()V"⟩, "ChurchyardBook"), ("ChurchyardBook$Book", 43, ⟨"ChurchyardBook", "need", "(ZI)V"⟩, "ChurchyardBook"), ("ChurchyardBook$Book", 81, ⟨"ChurchyardBook", "newRow", "(II)[LChurchyardBook$Place;"⟩, "ChurchyardBook"), ("ChurchyardBook$Book", 117, ⟨"ChurchyardBook", "isWide", "(II)Z"⟩, "ChurchyardBook"), ("ChurchyardBook$Book", 128, ⟨"ChurchyardBook", "newGrave", "(IIIIIII)LChurchyardBook$Grave;"⟩, "ChurchyardBook"), ("ChurchyardBook$Grave", 3, ⟨"ChurchyardBook$Place", "<init>", "()V"⟩, "ChurchyardBook")]
def zc_fln : List (String × Nat × String × String × String × String) := [("ChurchyardBook$Book", 102, "ChurchyardBook", "tree", "LChurchyardBook$Tree;", "ChurchyardBook"), ("ChurchyardBook$Book", 106, "ChurchyardBook", "way", "LChurchyardBook$Way;", "ChurchyardBook")]
def zc_decl : List MethodName := [⟨"ChurchyardBook$Ends", "lacks", "(I)I"⟩, ⟨"ChurchyardBook$Ends", "to", "()I"⟩, ⟨"ChurchyardBook$Grave", "columns", "()I"⟩, ⟨"ChurchyardBook$Grave", "in", "(II)LChurchyardBook$Person;"⟩, ⟨"ChurchyardBook$Grave", "isOpen", "(III)Z"⟩, ⟨"ChurchyardBook$Grave", "kind", "()I"⟩, ⟨"ChurchyardBook$Grave", "plan", "(III)I"⟩, ⟨"ChurchyardBook$Grave", "room", "(II)I"⟩, ⟨"ChurchyardBook$Grave", "yearly", "()I"⟩, ⟨"ChurchyardBook$Place", "what", "()I"⟩, ⟨"ChurchyardBook$Rests", "ground", "()I"⟩, ⟨"ChurchyardBook$Rests", "years", "(I)I"⟩, ⟨"ChurchyardBook$Single", "opens", "(III)I"⟩, ⟨"ChurchyardBook$Takes", "shunsTrees", "()Z"⟩, ⟨"ChurchyardBook$Takes", "takes", "(I)Z"⟩, ⟨"java/lang/Exception", "<init>", "()V"⟩, ⟨"java/lang/Exception", "<init>", "(Ljava/lang/String;)V"⟩, ⟨"java/lang/IndexOutOfBoundsException", "<init>", "()V"⟩, ⟨"java/lang/IndexOutOfBoundsException", "<init>", "(Ljava/lang/String;)V"⟩, ⟨"java/lang/Object", "equals", "(Ljava/lang/Object;)Z"⟩, ⟨"java/lang/Object", "getClass", "()Ljava/lang/Class;"⟩, ⟨"java/lang/RuntimeException", "<init>", "()V"⟩, ⟨"java/lang/RuntimeException", "<init>", "(Ljava/lang/String;)V"⟩, ⟨"java/lang/Throwable", "<init>", "()V"⟩, ⟨"java/lang/Throwable", "<init>", "(Ljava/lang/String;)V"⟩, ⟨"java/lang/Throwable", "fillInStackTrace", "()Ljava/lang/Throwable;"⟩]
def zc_fw : List (String × MethodName × MethodName) := [("ChurchyardBook$Single", ⟨"ChurchyardBook$Rests", "ground", "()I"⟩, ⟨"ChurchyardBook$Grave", "ground", "()I"⟩), ("ChurchyardBook$Deep", ⟨"ChurchyardBook$Rests", "ground", "()I"⟩, ⟨"ChurchyardBook$Grave", "ground", "()I"⟩), ("ChurchyardBook$Family", ⟨"ChurchyardBook$Rests", "ground", "()I"⟩, ⟨"ChurchyardBook$Grave", "ground", "()I"⟩), ("ChurchyardBook$Wall", ⟨"ChurchyardBook$Rests", "ground", "()I"⟩, ⟨"ChurchyardBook$Grave", "ground", "()I"⟩), ("ChurchyardBook$Meadow", ⟨"ChurchyardBook$Rests", "ground", "()I"⟩, ⟨"ChurchyardBook$Grave", "ground", "()I"⟩), ("ChurchyardBook$Child", ⟨"ChurchyardBook$Rests", "ground", "()I"⟩, ⟨"ChurchyardBook$Grave", "ground", "()I"⟩), ("ChurchyardBook$Single", ⟨"ChurchyardBook$Ends", "to", "()I"⟩, ⟨"ChurchyardBook$Grave", "to", "()I"⟩), ("ChurchyardBook$Deep", ⟨"ChurchyardBook$Ends", "to", "()I"⟩, ⟨"ChurchyardBook$Grave", "to", "()I"⟩), ("ChurchyardBook$Family", ⟨"ChurchyardBook$Ends", "to", "()I"⟩, ⟨"ChurchyardBook$Grave", "to", "()I"⟩), ("ChurchyardBook$Wall", ⟨"ChurchyardBook$Ends", "to", "()I"⟩, ⟨"ChurchyardBook$Grave", "to", "()I"⟩), ("ChurchyardBook$Meadow", ⟨"ChurchyardBook$Ends", "to", "()I"⟩, ⟨"ChurchyardBook$Grave", "to", "()I"⟩), ("ChurchyardBook$Child", ⟨"ChurchyardBook$Ends", "to", "()I"⟩, ⟨"ChurchyardBook$Grave", "to", "()I"⟩), ("ChurchyardBook$Wall", ⟨"ChurchyardBook$Takes", "shunsTrees", "()Z"⟩, ⟨"ChurchyardBook$Wall", "shunsTrees", "()Z"⟩), ("ChurchyardBook$Meadow", ⟨"ChurchyardBook$Takes", "shunsTrees", "()Z"⟩, ⟨"ChurchyardBook$Wall", "shunsTrees", "()Z"⟩)]
def zc_lid : List (String × MethodName × MethodName) := [("ChurchyardBook$Child", ⟨"ChurchyardBook$Grave", "lacks", "(I)I"⟩, ⟨"ChurchyardBook$Ends", "lacks", "(I)I"⟩), ("ChurchyardBook$Child", ⟨"ChurchyardBook$Grave", "years", "(I)I"⟩, ⟨"ChurchyardBook$Rests", "years", "(I)I"⟩), ("ChurchyardBook$Child", ⟨"ChurchyardBook$Takes", "shunsTrees", "()Z"⟩, ⟨"ChurchyardBook$Takes", "shunsTrees", "()Z"⟩), ("ChurchyardBook$Deep", ⟨"ChurchyardBook$Grave", "lacks", "(I)I"⟩, ⟨"ChurchyardBook$Ends", "lacks", "(I)I"⟩), ("ChurchyardBook$Deep", ⟨"ChurchyardBook$Grave", "years", "(I)I"⟩, ⟨"ChurchyardBook$Rests", "years", "(I)I"⟩), ("ChurchyardBook$Deep", ⟨"ChurchyardBook$Takes", "shunsTrees", "()Z"⟩, ⟨"ChurchyardBook$Takes", "shunsTrees", "()Z"⟩), ("ChurchyardBook$Family", ⟨"ChurchyardBook$Grave", "lacks", "(I)I"⟩, ⟨"ChurchyardBook$Ends", "lacks", "(I)I"⟩), ("ChurchyardBook$Family", ⟨"ChurchyardBook$Grave", "years", "(I)I"⟩, ⟨"ChurchyardBook$Rests", "years", "(I)I"⟩), ("ChurchyardBook$Family", ⟨"ChurchyardBook$Takes", "shunsTrees", "()Z"⟩, ⟨"ChurchyardBook$Takes", "shunsTrees", "()Z"⟩), ("ChurchyardBook$Meadow", ⟨"ChurchyardBook$Grave", "lacks", "(I)I"⟩, ⟨"ChurchyardBook$Ends", "lacks", "(I)I"⟩), ("ChurchyardBook$Meadow", ⟨"ChurchyardBook$Grave", "years", "(I)I"⟩, ⟨"ChurchyardBook$Rests", "years", "(I)I"⟩), ("ChurchyardBook$Single", ⟨"ChurchyardBook$Grave", "lacks", "(I)I"⟩, ⟨"ChurchyardBook$Ends", "lacks", "(I)I"⟩), ("ChurchyardBook$Single", ⟨"ChurchyardBook$Grave", "years", "(I)I"⟩, ⟨"ChurchyardBook$Rests", "years", "(I)I"⟩), ("ChurchyardBook$Single", ⟨"ChurchyardBook$Takes", "shunsTrees", "()Z"⟩, ⟨"ChurchyardBook$Takes", "shunsTrees", "()Z"⟩), ("ChurchyardBook$Wall", ⟨"ChurchyardBook$Grave", "lacks", "(I)I"⟩, ⟨"ChurchyardBook$Ends", "lacks", "(I)I"⟩), ("ChurchyardBook$Wall", ⟨"ChurchyardBook$Grave", "years", "(I)I"⟩, ⟨"ChurchyardBook$Rests", "years", "(I)I"⟩)]
def zc_gd : List Cond := [.methodLink "ChurchyardBook" 113 ⟨"ChurchyardBook$Grave", "takes", "(I)Z"⟩, .methodLink "ChurchyardBook" 120 ⟨"ChurchyardBook$Grave", "years", "(I)I"⟩, .methodLink "ChurchyardBook$Book" 262 ⟨"ChurchyardBook$Grave", "takes", "(I)Z"⟩, .methodLink "ChurchyardBook$Book" 275 ⟨"ChurchyardBook$Grave", "lacks", "(I)I"⟩, .methodLink "ChurchyardBook$Book" 278 ⟨"ChurchyardBook$Grave", "years", "(I)I"⟩, .sameMethod "ChurchyardBook$Grave" "ChurchyardBook$Ends" "lacks" "(I)I", .sameMethod "ChurchyardBook$Grave" "ChurchyardBook$Rests" "years" "(I)I", .sameMethod "ChurchyardBook$Grave" "ChurchyardBook$Takes" "takes" "(I)Z", .selects "ChurchyardBook$Family" ⟨"ChurchyardBook$Deep", "column", "(IIII)I"⟩ ⟨"ChurchyardBook$Deep", "column", "(IIII)I"⟩]
def zc_pub : List MethodName := [⟨"ChurchyardBook$Takes", "shunsTrees", "()Z"⟩]
def zc_ifm : List MethodName := [⟨"ChurchyardBook$Takes", "shunsTrees", "()Z"⟩]
def zc_wN : List Cond := vx_atN 8
def zc_wI : List Cond := vx_atM "java/lang/ArrayIndexOutOfBoundsException" ["java/lang/IndexOutOfBoundsException", "java/lang/RuntimeException", "java/lang/Exception"]
def zc_wC : List Cond := vx_atM "java/lang/ClassCastException" ["java/lang/RuntimeException", "java/lang/Exception"]
def zc_wS : List Cond := vx_atM "java/lang/ArrayStoreException" ["java/lang/RuntimeException", "java/lang/Exception"]
def zc_wG : List Cond := vx_atM "java/lang/NegativeArraySizeException" ["java/lang/RuntimeException", "java/lang/Exception"]
def zc_wE : List Cond := vx_at0 "ChurchyardBook" 179 "java/util/NoSuchElementException" ["java/lang/RuntimeException", "java/lang/Exception"]
def zc_wR0 : List Cond := Bundle.throwableAtoms ++ (Bundle.chain0Atoms "java/lang/Exception" [] ++ [.methodLink "ChurchyardBook$Refused" 1 (Bundle.init0 "java/lang/Exception"), .instantiable "ChurchyardBook$Refused" 7, .selects "ChurchyardBook$Refused" Bundle.tFill0 Bundle.tFill0, .selects "ChurchyardBook$Refused" Bundle.tFill Bundle.tFill,
   .lays "ChurchyardBook$Refused" Bundle.tN "cause" "Ljava/lang/Throwable;", .lays "ChurchyardBook$Refused" Bundle.tN "stackTrace" Bundle.steD, .lays "ChurchyardBook$Refused" Bundle.tN "suppressedExceptions" Bundle.listD, .laysFinal "ChurchyardBook$Refused" "ChurchyardBook$Refused" "answer" "I",
   .isRef (.static Bundle.tN "UNASSIGNED_STACK" Bundle.steD), .isRef (.static Bundle.tN "SUPPRESSED_SENTINEL" Bundle.listD),
   .fieldLink Bundle.tN 198 Bundle.tN "backtrace" "Ljava/lang/Object;", .lays Bundle.tN Bundle.tN "backtrace" "Ljava/lang/Object;", .lays "ChurchyardBook$Refused" Bundle.tN "backtrace" "Ljava/lang/Object;"])
def zc_wR : List Cond := zc_wR0.filter vx_no
def zc_xw : List Cond := zc_wN ++ (zc_wI ++ (zc_wC ++ (zc_wS ++ (zc_wG ++ (zc_wE ++ zc_wR)))))
def zc_xm : Cond → Bool := fun w => goodWord w || (match w with | .castable _ _ => true | .declares _ => true | _ => false)
def zc_K (D : va_G) (cA : Nat → ClassId) (P : Nat → Prop) (G : Nat × Nat × Nat) (U : State) : Prop :=
  va_K D zc_cl (zc_tys cA) U ∧ (∀ q ∈ zc_casts, va_Nw (.castable q.1 q.2) U) ∧ (∀ q ∈ zc_nots, va_Nc q.1 q.2 U) ∧ (∀ q ∈ zc_mln, va_Nw (.methodLinkNest q.1 q.2.1 q.2.2.1 q.2.2.2) U) ∧ (∀ q ∈ zc_fln, va_Nw (.fieldLinkNest q.1 q.2.1 q.2.2.1 q.2.2.2.1 q.2.2.2.2.1 q.2.2.2.2.2) U) ∧
  (∀ C ∈ ["java/lang/Object", "ChurchyardBook$Place", "ChurchyardBook$Grave", "ChurchyardBook$Wall", "ChurchyardBook$Deep"], va_AO C U) ∧ (∀ q, U.heap.size ≤ q → P q) ∧
  va_Z "java/util/ArrayList" "EMPTY_ELEMENTDATA" "[Ljava/lang/Object;" (.ref G.1) P U U.heap ∧ va_Z "java/util/ArrayList" "DEFAULTCAPACITY_EMPTY_ELEMENTDATA" "[Ljava/lang/Object;" (.ref G.2.1) P U U.heap ∧ va_Mi "[Ljava/lang/Object;" G.2.2 U ∧ va_Dc U ∧
  vx_Zq Bundle.tN "UNASSIGNED_STACK" Bundle.steD P U U.heap ∧ vx_Zq Bundle.tN "SUPPRESSED_SENTINEL" Bundle.listD P U U.heap ∧ modulesRight_1 U = true ∧ (∃ kA : Class, U.vm.classes[cA 7]? = some kA ∧ kA.kind = .array (cA 3) (.array (.object "ChurchyardBook$Place"))) ∧
  (∀ q ∈ zc_decl, va_Nw (.declares q) U) ∧ (∀ q ∈ zc_fw, va_Fw q.1 q.2.1 q.2.2 U) ∧ (∀ q ∈ zc_lid, va_Nw (.landsInDefault q.1 q.2.1 q.2.2) U) ∧ (∀ w ∈ zc_gd, w.before #[] U = true) ∧ va_Nw (.arrayOver (.array (.object "ChurchyardBook$Place"))) U ∧ (∀ q ∈ zc_pub, va_Nw (.publicMethod q) U) ∧ (∀ q ∈ zc_ifm, va_Nw (.interfaceMethod q.cls q.cls q.name q.desc) U) ∧ (∀ w ∈ zc_xw, w.before #[] U = true)
def zc_Cx (p : Program) (l : Launch) (s : State) (m : MethodId) (args : Array Value) (meth : Method) (c : Code) (cc : ByteArray) (nL : Nat) (ret : Option FieldType) (own : String) (D : va_G) (cA : Nat → ClassId) (P : Nat → Prop) (G : Nat × Nat × Nat) : Prop :=
  p.tables.exec = Jvm.exec ∧ c.code = cc ∧ c.maxLocals = nL ∧ s.vm.findClass own = some m.cls ∧ (∀ w ∈ lw_all, w.before args s = true) ∧ meth.sig.returnType = ret ∧ meth.locks = false ∧ l.stackTraces = false ∧ zc_K D cA P G s
def zc_ok (t k f : Nat) (FT : String × String × String × Bool) : Bool := match zc_cl[t - 1]? with
  | some r => decide (1 ≤ t) && decide (k < r.2.2) && decide (zc_b (t - 1) + k = f) && decide (r.2.1 k = FT)
  | none => false
section ZC
variable {p : Program} {l : Launch} {e : Env} {R : Room} {s : State} {m : MethodId} {args : Array Value} {below : List Frame} {meth : Method} {c : Code} {H : Heap} {locs : List Loc} {cells slots : Nat} {Q : State → Prop}
variable {cc : ByteArray} {nL pc : Nat} {ret : Option FieldType} {own : String} {ls : Array Slot} {rest : List Value} {D : va_G} {cA : Nat → ClassId} {P : Nat → Prop} {G : Nat × Nat × Nat} {h : ZH}
theorem zc_obj (X : zc_Cx p l s m args meth c cc nL ret own D cA P G) (hH : zc_H D cA P h s H locs) {cs : List Nat} {a : Nat} (hc : zt h a ∈ cs) {k f : Nat} {FT : String × String × String × Bool} (hok : cs.all (fun t => zc_ok t k f FT) = true) :
    ∃ (ci : Nat) (r : vw_C) (cell : Cell) (cf : Nat) (kf : Class) (fi : Nat) (fd : Field) (kC : Class), zc_cl[ci]? = some r ∧ zt h a = ci + 1 ∧ H[a]? = some cell ∧ cell.cls = D.1 ci ∧ cell.vm = .none ∧ (∀ j, j < r.2.2 → cell.slots[D.2 ci j]? = some (zc_val h (zc_b ci + j) a)) ∧ k < r.2.2 ∧ zc_b ci + k = f ∧ r.2.1 k = FT ∧ P a ∧
      s.fieldFound? FT.1 FT.2.1 FT.2.2.1 = some (cf, kf, fi, fd) ∧ fd.slot = D.2 ci k ∧ fd.isStatic = false ∧ s.vm.findClass r.1 = some (D.1 ci) ∧ s.vm.classes[D.1 ci]? = some kC ∧ kC.kind = .ordinary ∧ (u_lay r.1 r.2.1 k).before args s = true := by
  have h0 := List.all_eq_true.mp hok _ hc
  unfold zc_ok at h0
  split at h0
  case h_2 => cases h0
  case h_1 r hr =>
    simp only [Bool.and_eq_true, decide_eq_true_eq] at h0
    obtain ⟨⟨⟨t1, t2⟩, t3⟩, t4⟩ := h0
    obtain ⟨hat, hP⟩ := hH.1 a (by omega)
    have hlt := zc_cl_lt hr
    rcases hat with ⟨ci, r', g1, g2, ⟨cell, g3, g4, g5, g6⟩, -⟩ | ⟨k', g1, g2, g3⟩
    · have e1 : zt h a - 1 = ci := by omega
      rw [e1] at hr t3
      cases g2.symm.trans hr
      obtain ⟨-, -, -, -, hts, -, -, -, hK, -⟩ := X
      obtain ⟨hS, hfc, kC, hkC, hkind⟩ := hK.1 ci _ hr
      obtain ⟨cf, kf, fi, fd, hi, hsl⟩ := hS k t2
      have hin := zc_in ci _ hr
      refine ⟨ci, _, cell, cf, kf, fi, fd, kC, hr, g1, g3, g4, g5, g6, t2, t3, t4, ?_, ?_, hsl, (u_facts hfc hkC (u_lays hts hin t2) hi).1, hfc, hkC, hkind, hts _ (hin _ (u_in_lay t2))⟩
      · rcases hP with hP | ⟨hP, -⟩
        · exact hP
        · omega
      · rw [← t4]; exact hi
    · omega
theorem zc_getf (X : zc_Cx p l s m args meth c cc nL ret own D cA P G) (hH : zc_H D cA P h s H locs) {cs : List Nat} {a : Nat} (hc : zt h a ∈ cs) (k f : Nat) (FT : String × String × String × Bool) (hok : cs.all (fun t => zc_ok t k f FT) = true)
    {v : Value} (hv : zc_val h f a = v) {idx : Nat} {ref : String} (hl : Cond.fieldLink own idx ref FT.2.1 FT.2.2.1 ∈ lw_all) (hsame : ref = FT.1 ∨ Cond.sameField ref FT.1 FT.2.1 FT.2.2.1 ∈ lw_all)
    (hdg : decode cc pc = .ok (.getfield idx, 3)) (kk : W p l e R s m args below meth c H locs cells slots Q (F0 m (pc + 3) ls (v :: rest))) : W p l e R s m args below meth c H locs cells slots Q (F0 m pc ls (.ref a :: rest)) := by
  obtain ⟨ci, r, cell, cf, kf, fi, fd, kC, hr, g1, g3, g4, g5, g6, t2, t3, t4, hP, hi, hsl, hst, hfc, hkC, hkind, -⟩ := zc_obj X hH hc hok
  obtain ⟨hx, hb, hml, hown, hts, -⟩ := X
  have hi2 : s.fieldFound? ref FT.2.1 FT.2.2.1 = some (cf, kf, fi, fd) := by
    rcases hsame with rfl | hs
    · exact hi
    · exact u_same (hts _ hs) _ hi
  refine W.getf hx hb hown (hts _ hl) hi2 hst g3 (by rw [g5]; exact fun h => by cases h) (v := v) ?_ rfl rfl hdg kk
  rw [hsl, g6 k t2, t3, hv]
theorem zc_getN (X : zc_Cx p l s m args meth c cc nL ret own D cA P G) (hH : zc_H D cA P h s H locs) {cs : List Nat} {a : Nat} (hc : zt h a ∈ cs) (k f : Nat) (FT : String × String × String × Bool) (hok : cs.all (fun t => zc_ok t k f FT) = true)
    {v : Value} (hv : zc_val h f a = v) {idx : Nat} {ref host : String} (hl : (own, idx, ref, FT.2.1, FT.2.2.1, host) ∈ zc_fln) (hsame : ref = FT.1)
    (hdg : decode cc pc = .ok (.getfield idx, 3)) (kk : W p l e R s m args below meth c H locs cells slots Q (F0 m (pc + 3) ls (v :: rest))) : W p l e R s m args below meth c H locs cells slots Q (F0 m pc ls (.ref a :: rest)) := by
  obtain ⟨ci, r, cell, cf, kf, fi, fd, kC, hr, g1, g3, g4, g5, g6, t2, t3, t4, hP, hi, hsl, hst, hfc, hkC, hkind, -⟩ := zc_obj X hH hc hok
  obtain ⟨hx, hb, hml, hown, hts, -, -, -, hK⟩ := X
  subst hsame
  have hlk := va_Nw.use (A := args) rfl (hK.2.2.2.2.1 _ hl)
  refine va_Wgetf hx hb hown hlk hi hst g3 (by rw [g5]; exact fun h => by cases h) (v := v) ?_ rfl rfl hdg kk
  rw [hsl, g6 k t2, t3, hv]
/-- a field gets a value: the new picture is h' -/
theorem zc_setR (X : zc_Cx p l s m args meth c cc nL ret own D cA P G) (hH : zc_H D cA P h s H locs) {a ci k f : Nat} {r : vw_C} {cell : Cell} (hr : zc_cl[ci]? = some r) (g1 : zt h a = ci + 1) (g3 : H[a]? = some cell) (g4 : cell.cls = D.1 ci) (g5 : cell.vm = .none) (g6 : ∀ j, j < r.2.2 → cell.slots[D.2 ci j]? = some (zc_val h (zc_b ci + j) a)) (t2 : k < r.2.2) (t3 : zc_b ci + k = f) (hP : P a)
    {v : Value} {h' : ZH} (k1 : ∀ b, zt h' b = zt h b) (k2 : ∀ b, zl h' b = zl h b) (k3 : ∀ g b, zc_val h' g b = if g = f ∧ b = a then v else zc_val h g b) (k4 : ∀ q b j, zc_el h' q b j = zc_el h q b j)
    {H' : Heap} (e1 : H'[a]? = some (cell.setSlot (D.2 ci k) v)) (e2 : H'.size = H.size) (e3 : ∀ q, q ≠ a → H'[q]? = H[q]?) : zc_H D cA P h' s H' (locs ++ [⟨a, D.2 ci k⟩]) := by
  obtain ⟨hx, hb, hml, hown, hts, -, -, -, hK, -⟩ := X
  have hap := va_apart (own := own) hts (zc_in ci _ hr) (zc_ty ci) (zc_tyok ci _ hr) (zc_nm ci _ hr) hK hr
  refine ⟨fun b hb0 => ?_, hH.2.put e2 e3 hP⟩
  rw [k1] at hb0
  obtain ⟨hat, hPb⟩ := hH.1 b hb0
  by_cases hba : b = a
  · subst hba
    refine ⟨Or.inl ⟨ci, r, (k1 b).trans g1, hr, t_OB.to (V := updV (fun j => zc_val h (zc_b ci + j) b) k v) ⟨_, e1, g4, g5, t_set g6 hap t2 v⟩ (fun j _ => ?_), fun c9 hc9 => ?_⟩, Or.inl hP⟩
    rotate_left
    · cases e1.symm.trans hc9
      rcases hat with ⟨ci9, r9, i1, i2, -, hm⟩ | ⟨k9, i0, i1, i2⟩
      · have e9 : ci9 = ci := by omega
        obtain ⟨m1, m2⟩ := hm cell g3
        exact ⟨m1, fun h9 => (Array.size_setIfInBounds ..).trans (m2 (e9.trans h9))⟩
      · have := zc_cl_lt hr; omega
    show updV (fun j => zc_val h (zc_b ci + j) b) k v j = zc_val h' (zc_b ci + j) b
    rw [k3]
    unfold updV
    by_cases hj : j = k
    · subst hj; simp [t3]
    · have hne : ¬ zc_b ci + j = f := by omega
      simp [hj, hne]
  · refine ⟨(hat.same (k1 b) (k2 b) (fun f' => ?_) (fun q j => k4 q b j)).kept (e3 b hba), by rw [k1, k2]; exact hPb⟩
    rw [k3, if_neg (fun h => hba h.2)]
theorem zc_putv (X : zc_Cx p l s m args meth c cc nL ret own D cA P G) (hH : zc_H D cA P h s H locs) {cs : List Nat} {a : Nat} (hc : zt h a ∈ cs) (k f : Nat) (FT : String × String × String × Bool) (hok : cs.all (fun t => zc_ok t k f FT) = true)
    {idx : Nat} {ref : String} (hl : Cond.fieldLink own idx ref FT.2.1 FT.2.2.1 ∈ lw_all) (hsame : ref = FT.1 ∨ Cond.sameField ref FT.1 FT.2.1 FT.2.2.1 ∈ lw_all)
    {ty : FieldType} {v : Value} (hd : parseFieldDescriptor FT.2.2.1 = some ty) (hn : narrow ty v = v) (hfit : fits ty v = true) (hfin : FT.2.2.2 = false ∨ (FT.2.2.2 = true ∧ meth.name = "<init>" ∧ FT.1 = own))
    {h' : ZH} (k1 : ∀ b, zt h' b = zt h b) (k2 : ∀ b, zl h' b = zl h b) (k3 : ∀ g b, zc_val h' g b = if g = f ∧ b = a then v else zc_val h g b) (k4 : ∀ q b j, zc_el h' q b j = zc_el h q b j)
    (hdg : decode cc pc = .ok (.putfield idx, 3)) (kk : ∀ (H1 : Heap) (locs1 : List Loc), zc_H D cA P h' s H1 locs1 → W p l e R s m args below meth c H1 locs1 cells slots Q (F0 m (pc + 3) ls rest)) : W p l e R s m args below meth c H locs cells slots Q (F0 m pc ls (v :: .ref a :: rest)) := by
  have X0 := X
  obtain ⟨ci, r, cell, cf, kf, fi, fd, kC, hr, g1, g3, g4, g5, g6, t2, t3, t4, hP, hi, hsl, hst, hfc, hkC, hkind, hlay⟩ := zc_obj X hH hc hok
  obtain ⟨hx, hb, hml, hown, hts, -⟩ := X
  have hi2 : s.fieldFound? ref FT.2.1 FT.2.2.1 = some (cf, kf, fi, fd) := by
    rcases hsame with rfl | hs
    · exact hi
    · exact u_same (hts _ hs) _ hi
  unfold u_lay at hlay
  rw [t4] at hlay
  rcases hfin with hfin | ⟨hfin, hin2, hdecl⟩
  · rw [if_neg (by rw [hfin]; decide)] at hlay
    have h6 := u_store hfc hkC hkind hlay hi hd hn hfit
    refine W.putK hx hb (f := fd) ⟨hown, hts _ hl, ⟨_, _, _, hi2⟩, hst⟩ (by rw [g4]; exact h6) g3 g5 (by rw [hsl]; exact k2_hasslot (g6 k t2)) rfl rfl hdg fun H' e1 e2 e3 => ?_
    rw [hsl] at e1 ⊢
    exact kk H' _ (zc_setR X0 hH hr g1 g3 g4 g5 g6 t2 t3 hP k1 k2 k3 k4 e1 e2 e3)
  · rw [if_pos hfin] at hlay
    have hcf : m.cls = cf := by
      obtain ⟨_, _, c', _, _, _, -, -, hf', -, -, -, hown2, -⟩ := Cond.laysFinal_spec hlay
      have e1 : c' = cf := by have := hi.symm.trans hf'; simp at this; exact this.1.symm
      rw [hdecl] at hown2
      rw [← e1]; exact Option.some.inj (hown.symm.trans hown2)
    have h6 := u_fits hfc hkC hkind (Or.inr hlay) hi hd hn hfit
    refine W.putFinK hx hb hown (hts _ hl) hi2 hst hcf hin2 (by rw [g4]; exact h6) g3 g5 (by rw [hsl]; exact k2_hasslot (g6 k t2)) rfl rfl hdg fun H' e1 e2 e3 => ?_
    rw [hsl] at e1 ⊢
    exact kk H' _ (zc_setR X0 hH hr g1 g3 g4 g5 g6 t2 t3 hP k1 k2 k3 k4 e1 e2 e3)
theorem zc_puti (X : zc_Cx p l s m args meth c cc nL ret own D cA P G) (hH : zc_H D cA P h s H locs) {cs : List Nat} {a : Nat} (hc : zt h a ∈ cs) (k f : Nat) (FT : String × String × String × Bool) (hok : cs.all (fun t => zc_ok t k f FT) = true) (hrf : zc_rf f = false)
    {idx : Nat} {ref : String} (hl : Cond.fieldLink own idx ref FT.2.1 FT.2.2.1 ∈ lw_all) (hsame : ref = FT.1 ∨ Cond.sameField ref FT.1 FT.2.1 FT.2.2.1 ∈ lw_all)
    {ty : FieldType} {x : Int32} (hd : parseFieldDescriptor FT.2.2.1 = some ty) (hn : narrow ty (.int x) = .int x) (hfit : fits ty (.int x) = true) (hfin : FT.2.2.2 = false ∨ (FT.2.2.2 = true ∧ meth.name = "<init>" ∧ FT.1 = own))
    (hdg : decode cc pc = .ok (.putfield idx, 3)) (kk : ∀ (h' : ZH) (H1 : Heap) (locs1 : List Loc), h' = zpi h f a x → zc_H D cA P h' s H1 locs1 → W p l e R s m args below meth c H1 locs1 cells slots Q (F0 m (pc + 3) ls rest)) : W p l e R s m args below meth c H locs cells slots Q (F0 m pc ls (.int x :: .ref a :: rest)) :=
  zc_putv X hH hc k f FT hok hl hsame hd hn hfit hfin (h' := zpi h f a x) (fun _ => rfl) (fun _ => rfl) (fun g b => by
    unfold zc_val
    rw [zi_pi, zr_pi]
    by_cases hg : g = f ∧ b = a
    · obtain ⟨rfl, rfl⟩ := hg; simp [hrf]
    · rw [if_neg hg, if_neg hg]) (fun _ _ _ => rfl) hdg (fun H1 locs1 hH1 => kk _ H1 locs1 rfl hH1)
theorem zc_putr (X : zc_Cx p l s m args meth c cc nL ret own D cA P G) (hH : zc_H D cA P h s H locs) {cs : List Nat} {a : Nat} (hc : zt h a ∈ cs) (k f : Nat) (FT : String × String × String × Bool) (hok : cs.all (fun t => zc_ok t k f FT) = true) (hrf : zc_rf f = true)
    {idx : Nat} {ref : String} (hl : Cond.fieldLink own idx ref FT.2.1 FT.2.2.1 ∈ lw_all) (hsame : ref = FT.1 ∨ Cond.sameField ref FT.1 FT.2.1 FT.2.2.1 ∈ lw_all)
    {ty : FieldType} {x : Option Nat} {v : Value} (hv : v = va_rf x) (hd : parseFieldDescriptor FT.2.2.1 = some ty) (href : ty.isReference = true) (hfin : FT.2.2.2 = false ∨ (FT.2.2.2 = true ∧ meth.name = "<init>" ∧ FT.1 = own))
    (hdg : decode cc pc = .ok (.putfield idx, 3)) (kk : ∀ (h' : ZH) (H1 : Heap) (locs1 : List Loc), h' = zpr h f a x → zc_H D cA P h' s H1 locs1 → W p l e R s m args below meth c H1 locs1 cells slots Q (F0 m (pc + 3) ls rest)) : W p l e R s m args below meth c H locs cells slots Q (F0 m pc ls (v :: .ref a :: rest)) := by
  subst hv
  have hn : narrow ty (va_rf x) = va_rf x := by cases ty <;> cases x <;> simp_all [narrow, va_rf, FieldType.isReference]
  have hfit : fits ty (va_rf x) = true := by cases ty <;> cases x <;> simp_all [fits, va_rf, FieldType.isReference]
  exact zc_putv X hH hc k f FT hok hl hsame hd hn hfit hfin (h' := zpr h f a x) (fun _ => rfl) (fun _ => rfl) (fun g b => by
    unfold zc_val
    rw [zi_pr, zr_pr]
    by_cases hg : g = f ∧ b = a
    · obtain ⟨rfl, rfl⟩ := hg; simp [hrf]
    · rw [if_neg hg, if_neg hg]) (fun _ _ _ => rfl) hdg (fun H1 locs1 hH1 => kk _ H1 locs1 rfl hH1)
end ZC
def zc_nmT : Nat → String := fun t => match t with
  | 1 => "ChurchyardBook" | 2 => "ChurchyardBook$Tree" | 3 => "ChurchyardBook$Way" | 4 => "ChurchyardBook$Book" | 5 => "java/util/ArrayList" | 6 => "ChurchyardBook$Refused" | 7 => "ChurchyardBook$Field"
  | 8 => "ChurchyardBook$Single" | 9 => "ChurchyardBook$Deep" | 10 => "ChurchyardBook$Family" | 11 => "ChurchyardBook$Wall" | 12 => "ChurchyardBook$Meadow" | 13 => "ChurchyardBook$Child" | 14 => "ChurchyardBook$Person" | 15 => "ChurchyardBook$Stay" | 16 => "java/util/NoSuchElementException"
  | 20 => "[I" | 21 => "[Z" | 22 => "[Ljava/lang/Object;" | 23 => "[LChurchyardBook$Place;" | 24 => "[LChurchyardBook$Grave;" | 25 => "[LChurchyardBook$Wall;" | 26 => "[LChurchyardBook$Deep;" | 27 => "[[LChurchyardBook$Place;"
  | _ => ""
/-- the object at r is of a class of cs -/
def zin (h : ZH) (r : Option Nat) (cs : List Nat) : Int32 := match r with
  | none => 0
  | some b => if cs.contains (zt h b) then 1 else 0
def zc_cok (nm : String) (cs : List Nat) : Bool := cs.all (fun t => decide ((zc_nmT t, nm) ∈ zc_casts) || zc_nmT t == nm)
def zc_nok (nm : String) (cs : List Nat) : Bool := cs.all (fun t => decide ((zc_nmT t, nm) ∈ zc_nots))
/-- what an array of kind k takes: the tags -/
def zas : Nat → List Nat := fun k => match k with
  | 2 => [1, 2, 3, 4, 5, 6, 7, 8, 9, 10, 11, 12, 13, 14, 15, 16]
  | 3 => [2, 3, 8, 9, 10, 11, 12, 13]
  | 4 => [8, 9, 10, 11, 12, 13]
  | 5 => [11, 12]
  | 6 => [9, 10]
  | 7 => [23, 24, 25, 26]
  | _ => []
section ZC2
variable {p : Program} {l : Launch} {e : Env} {R : Room} {s : State} {m : MethodId} {args : Array Value} {below : List Frame} {meth : Method} {c : Code} {H : Heap} {locs : List Loc} {cells slots : Nat} {Q : State → Prop}
variable {cc : ByteArray} {nL pc : Nat} {ret : Option FieldType} {own : String} {ls : Array Slot} {rest : List Value} {D : va_G} {cA : Nat → ClassId} {P : Nat → Prop} {G : Nat × Nat × Nat} {h : ZH}
theorem zq_some {r : Option Nat} {b : Nat} (e1 : r = some b) (k : W p l e R s m args below meth c H locs cells slots Q (F0 m pc ls (.ref b :: rest))) : W p l e R s m args below meth c H locs cells slots Q (F0 m pc ls (va_rf r :: rest)) := by subst e1; exact k
theorem zq_aload_n (hexec : p.tables.exec = Jvm.exec) (hb : c.code = cc) {k : Fin 4} {i : Nat} {r : Option Nat} (hdg : decode cc pc = .ok (.aload_n k, 1)) (hi : (k : Nat) = i) (hl : ls[i]? = some (.val (va_rf r)))
    (kk : W p l e R s m args below meth c H locs cells slots Q (F0 m (pc + 1) ls (va_rf r :: rest))) : W p l e R s m args below meth c H locs cells slots Q (F0 m pc ls rest) := by
  cases r with
  | none => exact lv_aload_nN hexec hb hdg hi hl kk
  | some b => exact lv_aload_n hexec hb hdg hi hl kk
theorem zq_aload (hexec : p.tables.exec = Jvm.exec) (hb : c.code = cc) {i : Nat} {r : Option Nat} (hdg : decode cc pc = .ok (.aload i, 2)) (hl : ls[i]? = some (.val (va_rf r)))
    (kk : W p l e R s m args below meth c H locs cells slots Q (F0 m (pc + 2) ls (va_rf r :: rest))) : W p l e R s m args below meth c H locs cells slots Q (F0 m pc ls rest) := by
  cases r with
  | none => exact lv_aloadN hexec hb hdg hl kk
  | some b => exact lv_aload hexec hb hdg hl kk
theorem zq_astore_n (hexec : p.tables.exec = Jvm.exec) (hb : c.code = cc) {k : Fin 4} {i nL : Nat} {r : Option Nat} {v : Value} {lv lv' : List (Nat × Value)} (hv : v = va_rf r) (hdg : decode cc pc = .ok (.astore_n k, 1)) (hi : (k : Nat) = i) (h : lv_has ls nL lv) (hn : i < nL) (hl : (i, v) :: lv.filter (fun q => !(q.1 == i) && !(q.1 + 1 == i && q.2.category == 2)) = lv')
    (kk : ∀ ls' : Array Slot, lv_has ls' nL lv' → W p l e R s m args below meth c H locs cells slots Q (F0 m (pc + 1) ls' rest)) : W p l e R s m args below meth c H locs cells slots Q (F0 m pc ls (v :: rest)) := by
  subst hv
  cases r with
  | none => exact lv_astore_nN hexec hb hdg hi h hn hl kk
  | some b => exact lv_astore_n hexec hb hdg hi h hn hl kk
theorem zq_astore (hexec : p.tables.exec = Jvm.exec) (hb : c.code = cc) {i nL : Nat} {r : Option Nat} {v : Value} {lv lv' : List (Nat × Value)} (hv : v = va_rf r) (hdg : decode cc pc = .ok (.astore i, 2)) (h : lv_has ls nL lv) (hn : i < nL) (hl : (i, v) :: lv.filter (fun q => !(q.1 == i) && !(q.1 + 1 == i && q.2.category == 2)) = lv')
    (kk : ∀ ls' : Array Slot, lv_has ls' nL lv' → W p l e R s m args below meth c H locs cells slots Q (F0 m (pc + 2) ls' rest)) : W p l e R s m args below meth c H locs cells slots Q (F0 m pc ls (v :: rest)) := by
  subst hv
  cases r with
  | none => exact lv_astoreN hexec hb hdg h hn hl kk
  | some b => exact lv_astore hexec hb hdg h hn hl kk
theorem zq_ifnull (hexec : p.tables.exec = Jvm.exec) (hb : c.code = cc) {r : Option Nat} {off : Int} {tgt : Nat} (hdg : decode cc pc = .ok (.ifnull off, 3)) (ht : (pc : Int) + off = (tgt : Int))
    (kt : r = none → W p l e R s m args below meth c H locs cells slots Q (F0 m tgt ls rest)) (kf : ∀ b, r = some b → W p l e R s m args below meth c H locs cells slots Q (F0 m (pc + 3) ls rest)) : W p l e R s m args below meth c H locs cells slots Q (F0 m pc ls (va_rf r :: rest)) := by
  cases r with
  | none => exact lv_ifnullN hexec hb hdg ht (kt rfl)
  | some b => exact lv_ifnull hexec hb hdg (kf b rfl)
theorem zq_ifnonnull (hexec : p.tables.exec = Jvm.exec) (hb : c.code = cc) {r : Option Nat} {off : Int} {tgt : Nat} (hdg : decode cc pc = .ok (.ifnonnull off, 3)) (ht : (pc : Int) + off = (tgt : Int))
    (kt : ∀ b, r = some b → W p l e R s m args below meth c H locs cells slots Q (F0 m tgt ls rest)) (kf : r = none → W p l e R s m args below meth c H locs cells slots Q (F0 m (pc + 3) ls rest)) : W p l e R s m args below meth c H locs cells slots Q (F0 m pc ls (va_rf r :: rest)) := by
  cases r with
  | none => exact lv_ifnonnullN hexec hb hdg (kf rfl)
  | some b => exact lv_ifnonnull hexec hb hdg ht (kt b rfl)
theorem zc_arr (hH : zc_H D cA P h s H locs) {a k : Nat} (hk : k < 8) (ht : zt h a = 20 + k) : H[a]? = some (arrV (cA k) (zl h a) (fun j => zc_el h k a j)) ∧ (0 < zl h a → P a) := by
  obtain ⟨hat, hP⟩ := hH.1 a (by omega)
  refine ⟨?_, fun h0 => ?_⟩
  · rcases hat with ⟨ci, r, g1, g2, -⟩ | ⟨k', g1, g2, g3⟩
    · have := zc_cl_lt g2; omega
    · have e1 : k' = k := by omega
      subst e1; exact g3
  · rcases hP with hP | ⟨-, hP⟩
    · exact hP
    · omega
theorem zc_Kty (X : zc_Cx p l s m args meth c cc nL ret own D cA P G) {k : Nat} (hk : k < 8) : ArrOfT s (cA k) (zc_aty k) ∧ va_RA s (cA k) (zc_aty k) := X.2.2.2.2.2.2.2.2.1.2 k _ (zc_tys_at cA hk)
theorem zc_alen (X : zc_Cx p l s m args meth c cc nL ret own D cA P G) (hH : zc_H D cA P h s H locs) {a : Nat} (ht : zt h a ∈ [20, 21, 22, 23, 24, 25, 26, 27]) (hdg : decode cc pc = .ok (.arraylength, 1))
    (kk : W p l e R s m args below meth c H locs cells slots Q (F0 m (pc + 1) ls (.int (nI (zl h a)) :: rest))) : W p l e R s m args below meth c H locs cells slots Q (F0 m pc ls (.ref a :: rest)) := by
  obtain ⟨k, hk, ht⟩ : ∃ k, k < 8 ∧ zt h a = 20 + k := by
    simp only [List.mem_cons, List.not_mem_nil, or_false] at ht
    exact ⟨zt h a - 20, by omega, by omega⟩
  exact W.alen (n := nI (zl h a)) X.1 X.2.1 (zc_arr hH hk ht).1 ((zc_Kty X hk).1 _ _) (by rw [arrV_size]; rfl) rfl rfl hdg kk
theorem zc_iald (X : zc_Cx p l s m args meth c cc nL ret own D cA P G) (hH : zc_H D cA P h s H locs) {a : Nat} (ht : zt h a = 20) {i : Int32} (hin : vp_in i (zl h a)) (hdg : decode cc pc = .ok (.iaload, 1))
    (kk : W p l e R s m args below meth c H locs cells slots Q (F0 m (pc + 1) ls (.int (zj h 0 a i.toNatClampNeg) :: rest))) : W p l e R s m args below meth c H locs cells slots Q (F0 m pc ls (.int i :: .ref a :: rest)) := by
  have hlt : i.toNatClampNeg < zl h a := Nat.not_le.mp fun q => hin (Or.inr q)
  exact W.iald (v := .int (zj h 0 a i.toNatClampNeg)) X.1 X.2.1 (zc_arr hH (k := 0) (by omega) ht).1 ((zc_Kty X (k := 0) (by omega)).1 _ _) (fun q => by cases q) (by rw [arrV_size]; exact hin) (by rw [arrV_read _ _ hlt]; rfl) rfl rfl hdg kk
theorem zc_zald (X : zc_Cx p l s m args meth c cc nL ret own D cA P G) (hH : zc_H D cA P h s H locs) {a : Nat} (ht : zt h a = 21) {i : Int32} (hin : vp_in i (zl h a)) (hdg : decode cc pc = .ok (.baload, 1))
    (kk : W p l e R s m args below meth c H locs cells slots Q (F0 m (pc + 1) ls (.int (zj h 1 a i.toNatClampNeg) :: rest))) : W p l e R s m args below meth c H locs cells slots Q (F0 m pc ls (.int i :: .ref a :: rest)) := by
  have hlt : i.toNatClampNeg < zl h a := Nat.not_le.mp fun q => hin (Or.inr q)
  exact W.zald (v := .int (zj h 1 a i.toNatClampNeg)) X.1 X.2.1 (zc_arr hH (k := 1) (by omega) ht).1 ((zc_Kty X (k := 1) (by omega)).1 _ _) (fun q => by cases q) (by rw [arrV_size]; exact hin) (by rw [arrV_read _ _ hlt]; rfl) rfl rfl hdg kk
theorem zc_aald (X : zc_Cx p l s m args meth c cc nL ret own D cA P G) (hH : zc_H D cA P h s H locs) {a : Nat} (ks : List Nat) (g : Nat) (ht : zt h a ∈ ks) (hks : ks.all (fun t => decide (22 ≤ t) && decide (t < 28) && decide (zc_g (t - 20) = g)) = true) {i : Int32} (hin : vp_in i (zl h a)) (hdg : decode cc pc = .ok (.aaload, 1))
    (kk : W p l e R s m args below meth c H locs cells slots Q (F0 m (pc + 1) ls (va_rf (zs h g a i.toNatClampNeg) :: rest))) : W p l e R s m args below meth c H locs cells slots Q (F0 m pc ls (.int i :: .ref a :: rest)) := by
  have hlt : i.toNatClampNeg < zl h a := Nat.not_le.mp fun q => hin (Or.inr q)
  have h0 := List.all_eq_true.mp hks _ ht
  simp only [Bool.and_eq_true, decide_eq_true_eq] at h0
  obtain ⟨⟨t1, t2⟩, t3⟩ := h0
  obtain ⟨k, hk, hk2, ht⟩ : ∃ k, k < 8 ∧ 2 ≤ k ∧ zt h a = 20 + k := ⟨zt h a - 20, by omega, by omega, by omega⟩
  rw [ht, Nat.add_sub_cancel_left] at t3
  have href : (zc_aty k).isReference = true := by
    rcases (show k = 2 ∨ k = 3 ∨ k = 4 ∨ k = 5 ∨ k = 6 ∨ k = 7 by omega) with rfl | rfl | rfl | rfl | rfl | rfl <;> rfl
  refine W.aald (v := va_rf (zs h g a i.toNatClampNeg)) X.1 X.2.1 (zc_arr hH hk ht).1 ((zc_Kty X hk).1 _ _) href (fun q => by cases q) (by rw [arrV_size]; exact hin) ?_ rfl rfl hdg kk
  rw [arrV_read _ _ hlt, zc_el, if_neg (by omega), t3]
/-- an element gets a value: the new picture is h' -/
theorem zc_stR (hH : zc_H D cA P h s H locs) {a k i : Nat} (hk : k < 8) (ht : zt h a = 20 + k) (hi : i < zl h a) {v : Value} {h' : ZH} (k1 : ∀ b, zt h' b = zt h b) (k2 : ∀ b, zl h' b = zl h b) (k3 : ∀ g b, zc_val h' g b = zc_val h g b) (k4 : ∀ q b j, b ≠ a → zc_el h' q b j = zc_el h q b j) (k5 : ∀ j, zc_el h' k a j = if j = i then v else zc_el h k a j)
    {H' : Heap} (e1 : H'[a]? = some ((arrV (cA k) (zl h a) (fun j => zc_el h k a j)).setSlot i v)) (e2 : H'.size = H.size) (e3 : ∀ q, q ≠ a → H'[q]? = H[q]?) : zc_H D cA P h' s H' (locs ++ [⟨a, i⟩]) := by
  have hP := (zc_arr hH hk ht).2 (by omega)
  refine ⟨fun b hb0 => ?_, hH.2.put e2 e3 hP⟩
  rw [k1] at hb0
  obtain ⟨hat, hPb⟩ := hH.1 b hb0
  by_cases hba : b = a
  · subst hba
    refine ⟨Or.inr ⟨k, hk, (k1 b).trans ht, ?_⟩, Or.inl hP⟩
    rw [e1, arrV_store, k2]
    congr 2
    funext j
    rw [k5]
    unfold updV
    rfl
  · exact ⟨(hat.same (k1 b) (k2 b) (fun f' => k3 f' b) (fun q j => k4 q b j hba)).kept (e3 b hba), by rw [k1, k2]; exact hPb⟩
theorem zc_iast (X : zc_Cx p l s m args meth c cc nL ret own D cA P G) (hH : zc_H D cA P h s H locs) {a : Nat} (ht : zt h a = 20) {i x : Int32} (hin : vp_in i (zl h a)) (hdg : decode cc pc = .ok (.iastore, 1))
    (kk : ∀ (h' : ZH) (H1 : Heap) (locs1 : List Loc), h' = zpj h 0 a i.toNatClampNeg x → zc_H D cA P h' s H1 locs1 → W p l e R s m args below meth c H1 locs1 cells slots Q (F0 m (pc + 1) ls rest)) : W p l e R s m args below meth c H locs cells slots Q (F0 m pc ls (.int x :: .int i :: .ref a :: rest)) := by
  have hlt : i.toNatClampNeg < zl h a := Nat.not_le.mp fun q => hin (Or.inr q)
  refine W.iast X.1 X.2.1 (zc_arr hH (k := 0) (by omega) ht).1 ((zc_Kty X (k := 0) (by omega)).1 _ _) (fun q => by cases q) (by rw [arrV_size]; exact hin) rfl rfl hdg fun H1 e z oq => ?_
  refine kk _ H1 _ rfl (zc_stR hH (h' := zpj h 0 a i.toNatClampNeg x) (k := 0) (by omega) ht hlt (fun _ => rfl) (fun _ => rfl) (fun _ _ => rfl) (fun q b j hb => ?_) (fun j => ?_) e z oq)
  · simp [zc_el, zj_pj, zs_pj, hb]
  · simp only [zc_el, zj_pj]; by_cases hj : j = i.toNatClampNeg <;> simp [hj]
theorem zc_zast (X : zc_Cx p l s m args meth c cc nL ret own D cA P G) (hH : zc_H D cA P h s H locs) {a : Nat} (ht : zt h a = 21) {i x : Int32} (hin : vp_in i (zl h a)) (hdg : decode cc pc = .ok (.bastore, 1))
    (kk : ∀ (h' : ZH) (H1 : Heap) (locs1 : List Loc), h' = zpj h 1 a i.toNatClampNeg (x &&& 1) → zc_H D cA P h' s H1 locs1 → W p l e R s m args below meth c H1 locs1 cells slots Q (F0 m (pc + 1) ls rest)) : W p l e R s m args below meth c H locs cells slots Q (F0 m pc ls (.int x :: .int i :: .ref a :: rest)) := by
  have hlt : i.toNatClampNeg < zl h a := Nat.not_le.mp fun q => hin (Or.inr q)
  refine W.zast X.1 X.2.1 (zc_arr hH (k := 1) (by omega) ht).1 ((zc_Kty X (k := 1) (by omega)).1 _ _) (fun q => by cases q) (by rw [arrV_size]; exact hin) rfl rfl hdg fun H1 e z oq => ?_
  refine kk _ H1 _ rfl (zc_stR hH (h' := zpj h 1 a i.toNatClampNeg (x &&& 1)) (k := 1) (by omega) ht hlt (fun _ => rfl) (fun _ => rfl) (fun _ _ => rfl) (fun q b j hb => ?_) (fun j => ?_) e z oq)
  · simp [zc_el, zj_pj, zs_pj, hb]
  · simp only [zc_el, zj_pj]; by_cases hj : j = i.toNatClampNeg <;> simp [hj, narrow]
/-- the object of a tag, for the machine -/
theorem zc_cell (X : zc_Cx p l s m args meth c cc nL ret own D cA P G) (hH : zc_H D cA P h s H locs) {a : Nat} (h0 : zt h a ≠ 0) : ∃ cell : Cell, H[a]? = some cell ∧ cell.vm = .none ∧ s.vm.findClass (zc_nmT (zt h a)) = some cell.cls := by
  obtain ⟨hat, -⟩ := hH.1 a h0
  rcases hat with ⟨ci, r, g1, g2, ⟨cell, g3, g4, g5, g6⟩, -⟩ | ⟨k, g1, g2, g3⟩
  · refine ⟨cell, g3, g5, ?_⟩
    have h1 := (X.2.2.2.2.2.2.2.2.1.1 ci _ g2).2.1
    rw [g4, ← h1, g1]
    have h2 : ∀ (ci : Nat) (r : vw_C), zc_cl[ci]? = some r → zc_nmT (ci + 1) = r.1 := by
      intro ci r h
      match ci, h with
      | 0, h => cases h; rfl
      | 1, h => cases h; rfl
      | 2, h => cases h; rfl
      | 3, h => cases h; rfl
      | 4, h => cases h; rfl
      | 5, h => cases h; rfl
      | 6, h => cases h; rfl
      | 7, h => cases h; rfl
      | 8, h => cases h; rfl
      | 9, h => cases h; rfl
      | 10, h => cases h; rfl
      | 11, h => cases h; rfl
      | 12, h => cases h; rfl
      | 13, h => cases h; rfl
      | 14, h => cases h; rfl
      | 15, h => cases h; rfl
      | n + 16, h => simp [zc_cl] at h
    rw [h2 _ _ g2]
  · refine ⟨_, g3, rfl, ?_⟩
    have h1 := (zc_Kty X g1).2
    rw [g2]
    show s.vm.findClass (zc_nmT (20 + k)) = some (cA k)
    rcases (show k = 0 ∨ k = 1 ∨ k = 2 ∨ k = 3 ∨ k = 4 ∨ k = 5 ∨ k = 6 ∨ k = 7 by omega) with rfl | rfl | rfl | rfl | rfl | rfl | rfl | rfl
    · exact va_nm_int h1
    · exact va_nm_boolean h1
    · exact va_nmO h1 (by decide +kernel)
    · exact va_nmO h1 (by decide +kernel)
    · exact va_nmO h1 (by decide +kernel)
    · exact va_nmO h1 (by decide +kernel)
    · exact va_nmO h1 (by decide +kernel)
    · have e : "[" ++ (FieldType.array (.object "ChurchyardBook$Place")).toString = "[[LChurchyardBook$Place;" := by decide +kernel
      show s.vm.findClass "[[LChurchyardBook$Place;" = some (cA 7)
      rw [← e]; exact h1
theorem zc_asg (X : zc_Cx p l s m args meth c cc nL ret own D cA P G) {nm : String} {t : Nat} (hc : ((zc_nmT t, nm) ∈ zc_casts) ∨ zc_nmT t = nm) {c1 c2 : ClassId} (h1 : s.vm.findClass (zc_nmT t) = some c1) (h2 : s.vm.findClass nm = some c2) : s.vm.assignable c1 c2 = true := by
  rcases hc with hc | hc
  · obtain ⟨c0, t0, f1, f2, f3⟩ := Cond.castable_spec (va_Nw.use (A := args) rfl (X.2.2.2.2.2.2.2.2.2.1 _ hc))
    cases h1.symm.trans f1
    cases h2.symm.trans f2
    exact f3
  · rw [hc] at h1
    cases h1.symm.trans h2
    exact va_asg _ _
theorem zc_cok_at {nm : String} {cs : List Nat} (h : zc_cok nm cs = true) {t : Nat} (ht : t ∈ cs) : ((zc_nmT t, nm) ∈ zc_casts) ∨ zc_nmT t = nm := by
  have := List.all_eq_true.mp h _ ht
  simp only [Bool.or_eq_true, decide_eq_true_eq, beq_iff_eq] at this
  exact this
theorem zc_castY (X : zc_Cx p l s m args meth c cc nL ret own D cA P G) (hH : zc_H D cA P h s H locs) {r : Option Nat} (cs : List Nat) (nm : String) (hc : ∀ b, r = some b → zt h b ∈ cs) (h0 : 0 ∉ cs) (hok : zc_cok nm cs = true) {idx : Nat} (hl : Cond.classLink own idx nm ∈ lw_all) (hdg : decode cc pc = .ok (.checkcast idx, 3))
    (kk : W p l e R s m args below meth c H locs cells slots Q (F0 m (pc + 3) ls (va_rf r :: rest))) : W p l e R s m args below meth c H locs cells slots Q (F0 m pc ls (va_rf r :: rest)) := by
  have hx := X.1
  have hb := X.2.1
  cases r with
  | none => exact lv_castN hx hb hdg kk
  | some b =>
    have hb1 := hc b rfl
    obtain ⟨cell, g1, g2, g3⟩ := zc_cell X hH (a := b) (fun z => h0 (z ▸ hb1))
    obtain ⟨-, -, -, hown, hts, -⟩ := id X
    intro T hT X1
    have hpl : e.platform.magicAccessors = ({} : Platform).magicAccessors := by rw [X1.admits.platform]
    obtain ⟨c2, hc2, -⟩ := Cond.classLink_spec hown (hts _ hl) e.platform hpl
    obtain ⟨vm', X', st⟩ := X1.checkcastYes hx hown (hts _ hl) (by rw [hT]; exact g1) (by rw [g2]; rfl) hc2 (zc_asg X (zc_cok_at hok hb1) g3 hc2) (g := F0 m pc ls (.ref b :: rest)) rfl rfl (by rw [hb]; exact hdg)
    obtain ⟨t, a1, b1⟩ := kk (T.setVm vm') hT X'
    exact ⟨t, st t a1, b1⟩
theorem zc_inst (X : zc_Cx p l s m args meth c cc nL ret own D cA P G) (hH : zc_H D cA P h s H locs) {r : Option Nat} (cs ns : List Nat) (nm : String) (hc : ∀ b, r = some b → zt h b ∈ cs ++ ns) (h0 : 0 ∉ cs ++ ns) (hok : zc_cok nm cs = true) (hno : zc_nok nm ns = true) (hdis : ns.all (fun t => !cs.contains t) = true) {idx : Nat} (hl : Cond.classLink own idx nm ∈ lw_all) (hdg : decode cc pc = .ok (.instanceof idx, 3))
    (kk : W p l e R s m args below meth c H locs cells slots Q (F0 m (pc + 3) ls (.int (zin h r cs) :: rest))) : W p l e R s m args below meth c H locs cells slots Q (F0 m pc ls (va_rf r :: rest)) := by
  have hx := X.1
  have hb := X.2.1
  cases r with
  | none => exact lv_instN hx hb hdg kk
  | some b =>
    have hb1 := hc b rfl
    obtain ⟨cell, g1, g2, g3⟩ := zc_cell X hH (a := b) (fun z => h0 (z ▸ hb1))
    obtain ⟨-, -, -, hown, hts, -⟩ := id X
    rcases List.mem_append.mp hb1 with hb1 | hb1
    · have e1 : zin h (some b) cs = 1 := by simp [zin, hb1]
      rw [e1] at kk
      intro T hT X1
      have hpl : e.platform.magicAccessors = ({} : Platform).magicAccessors := by rw [X1.admits.platform]
      obtain ⟨c2, hc2, -⟩ := Cond.classLink_spec hown (hts _ hl) e.platform hpl
      obtain ⟨vm', X', st⟩ := X1.instanceofYes hx hown (hts _ hl) (by rw [hT]; exact g1) (by rw [g2]; rfl) hc2 (zc_asg X (zc_cok_at hok hb1) g3 hc2) (g := F0 m pc ls (.ref b :: rest)) rfl rfl (by rw [hb]; exact hdg)
      obtain ⟨t, a1, b1⟩ := kk (T.setVm vm') hT X'
      exact ⟨t, st t a1, b1⟩
    · have hd := List.all_eq_true.mp hdis _ hb1
      have e1 : zin h (some b) cs = 0 := by
        simp only [zin]
        rw [if_neg (by simpa using hd)]
      rw [e1] at kk
      have hn := List.all_eq_true.mp hno _ hb1
      simp only [decide_eq_true_eq] at hn
      exact va_instNo hx hb hown (hts _ hl) (X.2.2.2.2.2.2.2.2.2.2.1 _ hn) ⟨cell, g1, by rw [g2]; rfl, g3⟩ hdg kk
/-- the element's class of an array of references -/
theorem zc_fitN {T : State} {cell : Cell} {ty : FieldType} {i : Nat} (h : T.isArrayOf cell ty) (href : ty.isReference = true) : T.fitsSlot cell.cls cell.vm i .null = true := by
  obtain ⟨hobj, k, hk, comp, hkind⟩ := h
  cases hvm : cell.vm <;> first
    | exact absurd hvm (hobj _)
    | (cases ty <;> simp_all [State.fitsSlot, State.slotType?, fits, FieldType.isReference])
theorem zc_comp (X : zc_Cx p l s m args meth c cc nL ret own D cA P G) {k : Nat} (h2 : 2 ≤ k) (hk : k < 8) : ∃ (kA : Class) (comp : ClassId) (kc : Class) (nm : String), s.vm.classes[cA k]? = some kA ∧ kA.kind = .array comp (zc_aty k) ∧ s.vm.classes[comp]? = some kc ∧ s.vm.findClass nm = some comp ∧ (zas k).all (fun t => decide ((zc_nmT t, nm) ∈ zc_casts) || zc_nmT t == nm) = true := by
  have h1 := (zc_Kty X hk).2
  rcases (show k = 2 ∨ k = 3 ∨ k = 4 ∨ k = 5 ∨ k = 6 ∨ k = 7 by omega) with rfl | rfl | rfl | rfl | rfl | rfl
  · obtain ⟨kA, comp, k1, k2, k3, -⟩ := h1
    obtain ⟨kc, k4, -⟩ := Vm.findClass_spec k3
    exact ⟨kA, comp, kc, _, k1, k2, k4, k3, by decide +kernel⟩
  · obtain ⟨kA, comp, k1, k2, k3, -⟩ := h1
    obtain ⟨kc, k4, -⟩ := Vm.findClass_spec k3
    exact ⟨kA, comp, kc, _, k1, k2, k4, k3, by decide +kernel⟩
  · obtain ⟨kA, comp, k1, k2, k3, -⟩ := h1
    obtain ⟨kc, k4, -⟩ := Vm.findClass_spec k3
    exact ⟨kA, comp, kc, _, k1, k2, k4, k3, by decide +kernel⟩
  · obtain ⟨kA, comp, k1, k2, k3, -⟩ := h1
    obtain ⟨kc, k4, -⟩ := Vm.findClass_spec k3
    exact ⟨kA, comp, kc, _, k1, k2, k4, k3, by decide +kernel⟩
  · obtain ⟨kA, comp, k1, k2, k3, -⟩ := h1
    obtain ⟨kc, k4, -⟩ := Vm.findClass_spec k3
    exact ⟨kA, comp, kc, _, k1, k2, k4, k3, by decide +kernel⟩
  · obtain ⟨kA, k1, k2⟩ := X.2.2.2.2.2.2.2.2.2.2.2.2.2.2.2.2.2.2.2.2.2.2.1
    have h3 := (zc_Kty X (k := 3) (by omega)).2
    have h4 := va_nmO h3 (show "[" ++ (FieldType.object "ChurchyardBook$Place").toString = "[LChurchyardBook$Place;" by decide +kernel)
    obtain ⟨kc, k4, -⟩ := Vm.findClass_spec h4
    exact ⟨kA, cA 3, kc, _, k1, k2, k4, h4, by decide +kernel⟩
theorem zc_aast (X : zc_Cx p l s m args meth c cc nL ret own D cA P G) (hH : zc_H D cA P h s H locs) {a : Nat} (ks : List Nat) (g : Nat) (ht : zt h a ∈ ks) (hks : ks.all (fun t => decide (22 ≤ t) && decide (t < 28) && decide (zc_g (t - 20) = g)) = true) {i : Int32} {r : Option Nat} {v : Value} (hv : v = va_rf r) (hin : vp_in i (zl h a)) (hr : ∀ b, r = some b → zt h b ∈ zas (zt h a - 20)) (hdg : decode cc pc = .ok (.aastore, 1))
    (kk : ∀ (h' : ZH) (H1 : Heap) (locs1 : List Loc), h' = zps h g a i.toNatClampNeg r → zc_H D cA P h' s H1 locs1 → W p l e R s m args below meth c H1 locs1 cells slots Q (F0 m (pc + 1) ls rest)) : W p l e R s m args below meth c H locs cells slots Q (F0 m pc ls (v :: .int i :: .ref a :: rest)) := by
  subst hv
  have hlt : i.toNatClampNeg < zl h a := Nat.not_le.mp fun q => hin (Or.inr q)
  have h0 := List.all_eq_true.mp hks _ ht
  simp only [Bool.and_eq_true, decide_eq_true_eq] at h0
  obtain ⟨⟨t1, t2⟩, t3⟩ := h0
  obtain ⟨k, hk, hk2, ht⟩ : ∃ k, k < 8 ∧ 2 ≤ k ∧ zt h a = 20 + k := ⟨zt h a - 20, by omega, by omega, by omega⟩
  rw [ht, Nat.add_sub_cancel_left] at t3 hr
  have href : (zc_aty k).isReference = true := by
    rcases (show k = 2 ∨ k = 3 ∨ k = 4 ∨ k = 5 ∨ k = 6 ∨ k = 7 by omega) with rfl | rfl | rfl | rfl | rfl | rfl <;> rfl
  obtain ⟨hc, -⟩ := zc_arr hH hk ht
  have fin : ∀ (H1 : Heap), H1[a]? = some ((arrV (cA k) (zl h a) (fun j => zc_el h k a j)).setSlot i.toNatClampNeg (va_rf r)) → H1.size = H.size → (∀ q, q ≠ a → H1[q]? = H[q]?) → zc_H D cA P (zps h g a i.toNatClampNeg r) s H1 (locs ++ [⟨a, i.toNatClampNeg⟩]) := by
    intro H1 e1 z oq
    refine zc_stR hH (h' := zps h g a i.toNatClampNeg r) hk ht hlt (fun _ => rfl) (fun _ => rfl) (fun _ _ => rfl) (fun q b j hb => ?_) (fun j => ?_) e1 z oq
    · simp [zc_el, zj_ps, zs_ps, hb]
    · simp only [zc_el, zs_ps, if_neg (show ¬ k < 2 by omega), t3]; by_cases hj : j = i.toNatClampNeg <;> simp [hj]
  cases r with
  | none =>
    have harr := (zc_Kty X hk).1 (zl h a) (fun j => zc_el h k a j)
    intro T hT X1
    have hfit : T.fitsSlot (arrV (cA k) (zl h a) (fun j => zc_el h k a j)).cls (arrV (cA k) (zl h a) (fun j => zc_el h k a j)).vm i.toNatClampNeg .null = true := zc_fitN (State.isArrayOf_alike X1.warmed.alike harr) href
    have hcT : T.heap[a]? = some (arrV (cA k) (zl h a) (fun j => zc_el h k a j)) := by rw [hT]; exact hc
    have hltS : a < T.heap.size := (Array.getElem?_eq_some_iff.mp hcT).1
    obtain ⟨t', a1, b1⟩ := kk _ _ _ rfl (fin _ (heapAt_setCell_self _ hltS) (by rw [size_setCell, hT]) (fun q hq => by rw [heapAt_setCell_ne _ (Ne.symm hq), hT])) (T.setCell a ((arrV (cA k) (zl h a) (fun j => zc_el h k a j)).setSlot i.toNatClampNeg .null)) rfl (X1.stored hcT _ _)
    refine ⟨t', ?_, b1⟩
    have hdg' : decode c.code pc = .ok (.aastore, 1) := by rw [X.2.1]; exact hdg
    have hx := X.1
    jvm_step X1.here [hx, hdg']
    refine aastore.wp_of_null (c := arrV (cA k) (zl h a) (fun j => zc_el h k a j)) (t := zc_aty k) X1.here.top rfl hcT (State.isArrayOf_alike X1.warmed.alike harr) (by rw [arrV_size]; exact hin) (fun q => by cases q) (by rw [arrV_size]; exact hlt) hfit ?_
    intro acts
    rw [afterInstr_ok]
    exact a1
  | some b =>
    have hb1 := hr b rfl
    obtain ⟨kA, comp, kc, nm, k1, k2, k3, k4, k5⟩ := zc_comp X hk2 hk
    have hzb : zt h b ≠ 0 := by
      intro z
      rw [z] at hb1
      rcases (show k = 2 ∨ k = 3 ∨ k = 4 ∨ k = 5 ∨ k = 6 ∨ k = 7 by omega) with rfl | rfl | rfl | rfl | rfl | rfl <;> simp [zas] at hb1
    obtain ⟨cv, g1, g2, g3⟩ := zc_cell X hH hzb
    obtain ⟨kv, hkv, -⟩ := Vm.findClass_spec g3
    have hasg := zc_asg X (zc_cok_at (cs := zas k) k5 hb1) g3 k4
    exact W.aast X.1 X.2.1 hc (fun q h => by cases h) (fun h => by cases h) k1 k2 href k3 ⟨fun q => hin (Or.inl q), by rw [arrV_size]; exact hlt⟩ g1 (fun q h => by rw [g2] at h; cases h) hkv hasg rfl rfl hdg fun H1 e z oq => kk _ H1 _ rfl (fin H1 e z oq)
end ZC2
section ZC3
variable {p : Program} {l : Launch} {e : Env} {R : Room} {s : State} {m : MethodId} {args : Array Value} {below : List Frame} {meth : Method} {c : Code} {H : Heap} {locs : List Loc} {cells slots : Nat} {Q : State → Prop}
variable {cc : ByteArray} {nL pc : Nat} {ret : Option FieldType} {own : String} {ls : Array Slot} {rest : List Value} {D : va_G} {cA : Nat → ClassId} {P : Nat → Prop} {G : Nat × Nat × Nat} {h : ZH} {cr sr : Nat}
theorem zc_fresh (hH : zc_H D cA P h s H locs) : zt h H.size = 0 := by
  refine Classical.byContradiction fun h0 => ?_
  have := (hH.1 _ h0).1.lt
  omega
theorem zc_bornR (X : zc_Cx p l s m args meth c cc nL ret own D cA P G) (hH : zc_H D cA P h s H locs) {h' : ZH} {H1 : Heap} (z1 : H1.size = H.size + 1) (o1 : ∀ q, q < H.size → H1[q]? = H[q]?) (k0 : ∀ b, b ≠ H.size → zt h' b = zt h b) (k1 : ∀ b, b ≠ H.size → zl h' b = zl h b) (k2 : ∀ b f, b ≠ H.size → zc_val h' f b = zc_val h f b) (k3 : ∀ b k j, b ≠ H.size → zc_el h' k b j = zc_el h k b j) (hn : zc_at D cA h' H.size H1) : zc_H D cA P h' s H1 locs := by
  have hS := hH.2
  refine ⟨fun b hb0 => ?_, ⟨Nat.le_trans hS.1 (by omega), fun x h1 h2 => (o1 x (Nat.lt_of_lt_of_le h1 hS.1)).trans (hS.2.1 x h1 h2), hS.2.2⟩⟩
  by_cases hb : b = H.size
  · subst hb
    exact ⟨hn, Or.inl (X.2.2.2.2.2.2.2.2.2.2.2.2.2.2.1 _ hS.1)⟩
  · rw [k0 b hb] at hb0
    obtain ⟨hat, hP⟩ := hH.1 b hb0
    exact ⟨(hat.same (k0 b hb) (k1 b hb) (fun f => k2 b f hb) (fun k j => k3 b k j hb)).kept (o1 b hat.lt), by rw [k0 b hb, k1 b hb]; exact hP⟩
theorem zc_new (X : zc_Cx p l s m args meth c cc nL ret own D cA P G) (hH : zc_H D cA P h s H locs) (hB : cells + cr ≤ R.cells ∧ slots + sr ≤ R.slots) {ci : Nat} {r : vw_C} (hr : zc_cl[ci]? = some r) {n idx : Nat} (hl : Cond.classLink own idx r.1 ∈ lw_all) (hi : Cond.instantiable r.1 n ∈ lw_all) (hini : Cond.initialized r.1 ∈ lw_all) (hn5 : ci = 5 → n = 7) (hc : 1 ≤ cr) (hs : n ≤ sr) (hdg : decode cc pc = .ok (.new idx, 3))
    (kk : ∀ (a : Nat) (h' : ZH) (H1 : Heap), zt h a = 0 → h' = znew h a (ci + 1) → zc_H D cA P h' s H1 locs → cells + 1 + (cr - 1) ≤ R.cells ∧ slots + n + (sr - n) ≤ R.slots → W p l e R s m args below meth c H1 locs (cells + 1) (slots + n) Q (F0 m (pc + 3) ls (.ref a :: rest))) : W p l e R s m args below meth c H locs cells slots Q (F0 m pc ls rest) := by
  have X0 := X
  obtain ⟨hx, hb, hml, hown, hts, -, -, -, hK⟩ := X
  have hKn := hK.1.1 ci _ hr
  refine W.newcK hx hb hown (hts _ hl) (hts _ hi) (hts _ hini) rfl hdg (by omega) (by omega) hKn.2.1 rfl fun H1 kC hkC e1 z1 o1 => ?_
  refine kk H.size _ H1 (zc_fresh hH) rfl (zc_bornR X0 hH z1 o1 (fun b hb => ?_) (fun _ _ => rfl) (fun b f hb => ?_) (fun _ _ _ _ => rfl) (Or.inl ⟨ci, r, ?_, hr, (u_born (zc_ty ci) hts (zc_in ci _ hr) hKn hkC e1 (zc_tyok ci _ hr)).to (fun k hk => ?_), fun c9 hc9 => ?_⟩)) (by omega)
  · rw [zt_new, if_neg hb]
  · simp only [zc_val, zi_new, zr_new, if_neg hb]
  · rw [zt_new, if_pos rfl]
  · rw [zc_def ci _ hr k hk]
    simp only [zc_val, zi_new, zr_new, if_pos rfl]
    rfl
  · cases e1.symm.trans hc9
    obtain ⟨c8, k8, j1, j2, -, -, -, j3⟩ := Cond.instantiable_spec (hts _ hi)
    cases j1.symm.trans hKn.2.1
    cases j2.symm.trans hkC
    exact ⟨rfl, fun h9 => (Array.size_map ..).trans (j3.trans (hn5 h9))⟩
theorem zc_newa (X : zc_Cx p l s m args meth c cc nL ret own D cA P G) (hH : zc_H D cA P h s H locs) (hB : cells + cr ≤ R.cells ∧ slots + sr ≤ R.slots) {atype : ArrayType} (k : Nat) (hk : k = 0 ∧ atype = .int ∨ k = 1 ∧ atype = .boolean) (harr : Cond.arrayClass (newarray.typeOf atype) ∈ lw_all) {n : Int32} (hn : ¬ n < 0) (h3 : n.toNatClampNeg ≤ 30000) (hc : 1 ≤ cr) (hs : n.toNatClampNeg ≤ sr) (hdg : decode cc pc = .ok (.newarray atype, 2))
    (kk : ∀ (a : Nat) (h' : ZH) (H1 : Heap), zt h a = 0 → h' = zarr h a k n.toNatClampNeg → zc_H D cA P h' s H1 locs → cells + 1 + (cr - 1) ≤ R.cells ∧ slots + n.toNatClampNeg + (sr - n.toNatClampNeg) ≤ R.slots → W p l e R s m args below meth c H1 locs (cells + 1) (slots + n.toNatClampNeg) Q (F0 m (pc + 2) ls (.ref a :: rest))) : W p l e R s m args below meth c H locs cells slots Q (F0 m pc ls (.int n :: rest)) := by
  have X0 := X
  obtain ⟨hx, hb, hml, hown, hts, -, -, -, hK⟩ := X
  have hty : newarray.typeOf atype = zc_aty k := by rcases hk with ⟨rfl, rfl⟩ | ⟨rfl, rfl⟩ <;> rfl
  have hk8 : k < 8 := by omega
  have hby : n.toNatClampNeg * componentBytes (newarray.typeOf atype) ≤ 536870912 := by
    rcases hk with ⟨rfl, rfl⟩ | ⟨rfl, rfl⟩
    · show n.toNatClampNeg * 4 ≤ _; omega
    · show n.toNatClampNeg * 1 ≤ _; omega
  refine va_newaK hx hb (hts _ harr) rfl hdg rfl hn rfl hby (by omega) (by omega) rfl fun H1 cA' e1 z1 o1 hAr hNm => ?_
  have hc2 : cA' = cA k := by
    have h1 := (zc_Kty X0 hk8).2
    have h2 : s.vm.findClass ("[" ++ (newarray.typeOf atype).toString) = some (cA k) := by
      rw [hty]
      rcases hk with ⟨rfl, rfl⟩ | ⟨rfl, rfl⟩
      · exact h1
      · exact h1
    exact Option.some.inj (hNm.symm.trans h2)
  subst hc2
  refine kk H.size _ H1 (zc_fresh hH) rfl (zc_bornR X0 hH z1 o1 (fun b hb => ?_) (fun b hb => ?_) (fun _ _ _ => rfl) (fun b q j hb => ?_) (Or.inr ⟨k, hk8, ?_, ?_⟩)) (by omega)
  · rw [zt_arr, if_neg hb]
  · rw [zl_arr, if_neg hb]
  · simp only [zc_el, zj_arr, zs_arr, if_neg hb]
  · rw [zt_arr, if_pos rfl]
  · rw [e1, zl_arr, if_pos rfl]
    congr 2
    funext j
    simp only [zc_el, zj_arr, if_pos rfl]
    rw [if_pos (by omega)]
    rcases hk with ⟨rfl, rfl⟩ | ⟨rfl, rfl⟩ <;> rfl
theorem zc_newq (X : zc_Cx p l s m args meth c cc nL ret own D cA P G) (hH : zc_H D cA P h s H locs) (hB : cells + cr ≤ R.cells ∧ slots + sr ≤ R.slots) (k : Nat) (C : String) (hk : 2 ≤ k ∧ k < 7 ∧ zc_aty k = .object C) (hao : C ∈ ["java/lang/Object", "ChurchyardBook$Place", "ChurchyardBook$Grave", "ChurchyardBook$Wall", "ChurchyardBook$Deep"]) {idx : Nat} (hl : Cond.classLink own idx C ∈ lw_all) {n : Int32} (hn : ¬ n < 0) (h3 : n.toNatClampNeg ≤ 30000) (hc : 1 ≤ cr) (hs : n.toNatClampNeg ≤ sr) (hdg : decode cc pc = .ok (.anewarray idx, 3))
    (kk : ∀ (a : Nat) (h' : ZH) (H1 : Heap), zt h a = 0 → h' = zarr h a k n.toNatClampNeg → zc_H D cA P h' s H1 locs → cells + 1 + (cr - 1) ≤ R.cells ∧ slots + n.toNatClampNeg + (sr - n.toNatClampNeg) ≤ R.slots → W p l e R s m args below meth c H1 locs (cells + 1) (slots + n.toNatClampNeg) Q (F0 m (pc + 3) ls (.ref a :: rest))) : W p l e R s m args below meth c H locs cells slots Q (F0 m pc ls (.int n :: rest)) := by
  have X0 := X
  obtain ⟨hx, hb, hml, hown, hts, -, -, -, hK⟩ := X
  have hk8 : k < 8 := by omega
  refine W.anew hx hb hown (hts _ hl) (va_AO.use (hK.2.2.2.2.2.1 _ hao)) rfl hdg rfl hn (by omega) (by omega) (by omega) fun cA' kA comp f1 f2 f3 f4 => ?_
  have hc2 : cA' = cA k := by
    have h1 := (zc_Kty X0 hk8).2
    rw [hk.2.2] at h1
    exact Option.some.inj (f1.symm.trans (va_nmO h1 rfl))
  subst hc2
  generalize hH1 : H.push ({ cls := cA k, slots := Array.replicate n.toNatClampNeg .null, vm := .none } : Cell) = H1
  have z1 : H1.size = H.size + 1 := by rw [← hH1, Array.size_push]
  have e1 : H1[H.size]? = some (arrV (cA k) n.toNatClampNeg (fun _ => .null)) := by rw [← hH1, Array.getElem?_push_size, ← arrV_new]
  have o1 : ∀ q : Nat, q < H.size → H1[q]? = H[q]? := fun q hq => by rw [← hH1, Array.getElem?_push, if_neg (Nat.ne_of_lt hq)]
  refine kk H.size _ H1 (zc_fresh hH) rfl (zc_bornR X0 hH z1 o1 (fun b hb => ?_) (fun b hb => ?_) (fun _ _ _ => rfl) (fun b q j hb => ?_) (Or.inr ⟨k, hk8, ?_, ?_⟩)) (by omega)
  · rw [zt_arr, if_neg hb]
  · rw [zl_arr, if_neg hb]
  · simp only [zc_el, zj_arr, zs_arr, if_neg hb]
  · rw [zt_arr, if_pos rfl]
  · rw [e1, zl_arr, if_pos rfl]
    congr 2
    funext j
    simp only [zc_el, zs_arr, if_pos rfl]
    rw [if_neg (by omega)]
    rfl
theorem zc_newP (X : zc_Cx p l s m args meth c cc nL ret own D cA P G) (hH : zc_H D cA P h s H locs) (hB : cells + cr ≤ R.cells ∧ slots + sr ≤ R.slots) {idx : Nat} (hl : Cond.classLink own idx "[LChurchyardBook$Place;" ∈ lw_all) (hao : (Cond.arrayOver (.array (.object "ChurchyardBook$Place"))).before args s = true) {n : Int32} (hn : ¬ n < 0) (h3 : n.toNatClampNeg ≤ 30000) (hc : 1 ≤ cr) (hs : n.toNatClampNeg ≤ sr) (hdg : decode cc pc = .ok (.anewarray idx, 3))
    (kk : ∀ (a : Nat) (h' : ZH) (H1 : Heap), zt h a = 0 → h' = zarr h a 7 n.toNatClampNeg → zc_H D cA P h' s H1 locs → cells + 1 + (cr - 1) ≤ R.cells ∧ slots + n.toNatClampNeg + (sr - n.toNatClampNeg) ≤ R.slots → W p l e R s m args below meth c H1 locs (cells + 1) (slots + n.toNatClampNeg) Q (F0 m (pc + 3) ls (.ref a :: rest))) : W p l e R s m args below meth c H locs cells slots Q (F0 m pc ls (.int n :: rest)) := by
  have X0 := X
  obtain ⟨hx, hb, hml, hown, hts, -, -, -, hK⟩ := X
  have hnm : (FieldType.array (.object "ChurchyardBook$Place")).toString = "[LChurchyardBook$Place;" := by decide +kernel
  refine W.anewA (t := .object "ChurchyardBook$Place") hx hb hown (by rw [hnm]; exact hts _ hl) hao rfl hdg rfl hn (by omega) (by omega) (by omega) fun cA' kA comp f1 f2 f3 f4 => ?_
  have hc2 : cA' = cA 7 := by
    have h1 := (zc_Kty X0 (k := 7) (by omega)).2
    exact Option.some.inj (f1.symm.trans h1)
  subst hc2
  generalize hH1 : H.push ({ cls := cA 7, slots := Array.replicate n.toNatClampNeg .null, vm := .none } : Cell) = H1
  have z1 : H1.size = H.size + 1 := by rw [← hH1, Array.size_push]
  have e1 : H1[H.size]? = some (arrV (cA 7) n.toNatClampNeg (fun _ => .null)) := by rw [← hH1, Array.getElem?_push_size, ← arrV_new]
  have o1 : ∀ q : Nat, q < H.size → H1[q]? = H[q]? := fun q hq => by rw [← hH1, Array.getElem?_push, if_neg (Nat.ne_of_lt hq)]
  refine kk H.size _ H1 (zc_fresh hH) rfl (zc_bornR X0 hH z1 o1 (fun b hb => ?_) (fun b hb => ?_) (fun _ _ _ => rfl) (fun b q j hb => ?_) (Or.inr ⟨7, by omega, ?_, ?_⟩)) (by omega)
  · rw [zt_arr, if_neg hb]
  · rw [zl_arr, if_neg hb]
  · simp only [zc_el, zj_arr, zs_arr, if_neg hb]
  · rw [zt_arr, if_pos rfl]
  · rw [e1, zl_arr, if_pos rfl]
    congr 2
    funext j
    simp only [zc_el, zs_arr, if_pos rfl]
    rw [if_neg (by omega)]
    rfl
/-- System.arraycopy within ints (k = 0) or references of Object[] (k = 2) -/
theorem zc_copy (X : zc_Cx p l s m args meth c cc nL ret own D cA P G) (hH : zc_H D cA P h s H locs) (hsz : ls.size = nL) {idx : Nat} (hlink : Cond.methodLink own idx arraycopyName ∈ lw_all) (hnat : Cond.native arraycopyName ∈ lw_all) (hstat : Cond.static arraycopyName ∈ lw_all) (hini : Cond.initialized "java/lang/System" ∈ lw_all)
    (k : Nat) (hk : k = 0 ∨ k = 2) {a d : Nat} (ha : zt h a = 20 + k) (hd : zt h d = 20 + k) (hd0 : 0 < zl h d) {sp dp n : Int32} (h1 : ¬ sp < 0) (h2 : ¬ dp < 0) (h3 : ¬ n < 0) (h4 : sp.toNatClampNeg + n.toNatClampNeg ≤ zl h a) (h5 : dp.toNatClampNeg + n.toNatClampNeg ≤ zl h d)
    (hel : k = 2 → ∀ i, i < n.toNatClampNeg → ∀ y, zs h 2 a (sp.toNatClampNeg + i) = some y → zt h y ∈ zas 2)
    {h' : ZH} (hh : h' = if k = 0 then zcpj h 0 a sp.toNatClampNeg d dp.toNatClampNeg n.toNatClampNeg else zcps h 2 a sp.toNatClampNeg d dp.toNatClampNeg n.toNatClampNeg)
    (hframes : 1 ≤ R.frames) (hlocals : (rest.map fun v => v.category).sum + 30 ≤ R.locals) (hdg : decode cc pc = .ok (.invokestatic idx, 3))
    (kk : ∀ (H1 : Heap) (locs1 : List Loc), zc_H D cA P h' s H1 locs1 → W p l e R s m args below meth c H1 locs1 cells slots Q (F0 m (pc + 3) ls rest)) : W p l e R s m args below meth c H locs cells slots Q (F0 m pc ls (.int n :: .int dp :: .ref d :: .int sp :: .ref a :: rest)) := by
  have nn : ∀ z : Int32, ¬ z < 0 → z.toInt = (z.toNatClampNeg : Int) := by
    intro z hz
    have hz0 : (0 : Int) ≤ z.toInt := by
      have := Int32.not_lt.mp hz
      simpa using Int32.le_iff_toInt_le.mp this
    show z.toInt = ((z.toInt.toNat : Nat) : Int)
    omega
  have X9 := X
  obtain ⟨hx, hb, hml, hown, hts, -, -, -, hK⟩ := X
  have hk8 : k < 8 := by omega
  intro T hT X
  obtain ⟨hc0, -⟩ := zc_arr hH hk8 ha
  obtain ⟨hc1, hPd⟩ := zc_arr hH hk8 hd
  have hPd := hPd hd0
  have e1 : (fun i => zc_el h' k d i) = va_cpy (fun i => zc_el h k a i) (fun i => zc_el h k d i) sp.toNatClampNeg dp.toNatClampNeg n.toNatClampNeg := by
    funext i
    subst hh
    rcases hk with rfl | rfl
    · simp only [zc_el, va_cpy, zj_cpj]
      by_cases hi : dp.toNatClampNeg ≤ i ∧ i < dp.toNatClampNeg + n.toNatClampNeg <;> simp [hi, zj_cpj]
    · simp only [zc_el, va_cpy, zs_cps, zc_g]
      by_cases hi : dp.toNatClampNeg ≤ i ∧ i < dp.toNatClampNeg + n.toNatClampNeg <;> simp [hi, zs_cps]
  obtain ⟨-, k0, hk0, cm0, hkk0⟩ := (zc_Kty X9 hk8).1 (zl h a) (fun j => zc_el h k a j)
  obtain ⟨-, k1, hk1, cm1, hkk1⟩ := (zc_Kty X9 hk8).1 (zl h d) (fun j => zc_el h k d j)
  have hw : nativeFrameWords "java/lang/System" "arraycopy" 5 + 11 ≤ 30 := by decide
  obtain ⟨vm', X', step⟩ := X.arraycopy hx hown (hts _ hlink) (hts _ hnat) (hts _ hstat) (hts _ hini) (src := a) (dst := d) (cs := arrV (cA k) (zl h a) (fun j => zc_el h k a j)) (cd := arrV (cA k) (zl h d) (fun j => zc_el h k d j)) (srcPos := sp) (destPos := dp) (n := n) (by rw [hT]; exact hc0) (by rw [hT]; exact hc1)
    (fun _ h => by cases h) (fun _ h => by cases h) (fun h => by cases h) (fun h => by cases h) hk0 hk1 hkk0 hkk1 (by rcases hk with rfl | rfl <;> rfl) h1 h2 h3
    (by rw [nn sp h1, nn n h3, arrV_size]; omega)
    (by rw [nn dp h2, nn n h3, arrV_size]; omega)
    (fun vm₁ hal i hi => by
      have e : (arrV (cA k) (zl h a) (fun j => zc_el h k a j)).slots.getD (sp.toNatClampNeg + i) .null = zc_el h k a (sp.toNatClampNeg + i) := by
        rw [Array.getD_eq_getD_getElem?, arrV_read _ _ (by omega)]
        rfl
      rw [e]
      rcases hk with rfl | rfl
      · exact ⟨rfl, trivial⟩
      · have e5 : zc_el h 2 a (sp.toNatClampNeg + i) = va_rf (zs h 2 a (sp.toNatClampNeg + i)) := rfl
        rw [e5]
        cases hy : zs h 2 a (sp.toNatClampNeg + i) with
        | none => exact ⟨rfl, trivial⟩
        | some y =>
          have hty := hel rfl i hi y hy
          have hy0 : zt h y ≠ 0 := fun z => by rw [z] at hty; simp [zas] at hty
          obtain ⟨cellV, g1, g2, g3⟩ := zc_cell X9 hH hy0
          obtain ⟨kA, comp, kc, nm, r1, r2, r3, r4, r5⟩ := zc_comp X9 (k := 2) (by omega) (by omega)
          cases hk1.symm.trans r1
          cases hkk1.symm.trans r2
          obtain ⟨kC, hkC, -⟩ := Vm.findClass_spec g3
          obtain ⟨kC', hkC', -⟩ := hal.2.2 _ _ hkC
          obtain ⟨kE', hkE', -⟩ := hal.2.2 _ _ r3
          refine ⟨rfl, cellV, (show T.heap[y]? = some cellV by rw [hT]; exact g1), (fun q h => by rw [g2] at h; cases h), ⟨kC', hkC'⟩, ?_, ?_⟩
          · exact ⟨kE', hkE'⟩
          · show vm₁.assignable _ _ = true
            rw [hal.assignable]
            exact zc_asg X9 (zc_cok_at (cs := zas 2) r5 hty) g3 r4)
    (g := F0 m pc ls (.int n :: .int dp :: .ref d :: .int sp :: .ref a :: rest)) rfl (hsz.trans hml.symm) (rest := rest) rfl (by rw [hb]; exact hdg) hframes (by show 2 * 0 + _ + _ ≤ _; omega)
  have e2 : copied (arrV (cA k) (zl h a) (fun j => zc_el h k a j)) (arrV (cA k) (zl h d) (fun j => zc_el h k d j)) sp dp n = arrV (cA k) (zl h d) (fun j => zc_el h' k d j) := by
    rw [e1]
    exact va_copied (fun z => z) (cA k) (cA k) _ _ h4
  rw [e2] at X' step
  have hl : d < H.size := (Array.getElem?_eq_some_iff.mp hc1).1
  have oq : ∀ q : Nat, q ≠ d → (H.setIfInBounds d (arrV (cA k) (zl h d) (fun j => zc_el h' k d j)))[q]? = H[q]? := fun q hq => by simp [Array.getElem?_setIfInBounds, Ne.symm hq]
  have ed : (H.setIfInBounds d (arrV (cA k) (zl h d) (fun j => zc_el h' k d j)))[d]? = some (arrV (cA k) (zl h d) (fun j => zc_el h' k d j)) := by simp [Array.getElem?_setIfInBounds, hl]
  have kt : ∀ b, zt h' b = zt h b := by intro b; subst hh; rcases hk with rfl | rfl <;> rfl
  have kl : ∀ b, zl h' b = zl h b := by intro b; subst hh; rcases hk with rfl | rfl <;> rfl
  have kv : ∀ f b, zc_val h' f b = zc_val h f b := by intro f b; subst hh; rcases hk with rfl | rfl <;> rfl
  have ke : ∀ q b j, b ≠ d → zc_el h' q b j = zc_el h q b j := by
    intro q b j hb; subst hh
    rcases hk with rfl | rfl
    · simp [zc_el, zj_cpj, zs_cpj, hb]
    · simp [zc_el, zj_cps, zs_cps, hb]
  obtain ⟨t, a1, b1⟩ := kk _ _ ⟨fun b hb0 => by
      rw [kt] at hb0
      obtain ⟨hat, hPb⟩ := hH.1 b hb0
      by_cases hbd : b = d
      · subst hbd
        exact ⟨Or.inr ⟨k, hk8, (kt b).trans hd, by rw [kl]; exact ed⟩, Or.inl hPd⟩
      · exact ⟨(hat.same (kt b) (kl b) (fun f => kv f b) (fun q j => ke q b j hbd)).kept (oq b hbd), by rw [kt, kl]; exact hPb⟩,
    ⟨by simp; exact hH.2.1, fun q g1 g2 => by
      rw [oq q (fun e => g2 (by rw [e]; exact hPd))]
      exact hH.2.2.1 q g1 g2, fun q hq => by
      rcases List.mem_append.mp hq with h | h
      · exact hH.2.2.2 q h
      · obtain ⟨z, -, hz⟩ := List.mem_map.mp h
        rw [← hz]
        exact hPd⟩⟩ _ (show _ = H.setIfInBounds d (arrV (cA k) (zl h d) (fun j => zc_el h' k d j)) by rw [← hT]; rfl) X'
  exact ⟨t, step t a1, b1⟩
theorem zc_gets (X : zc_Cx p l s m args meth c cc nL ret own D cA P G) (hH : zc_H D cA P h s H locs) (hown : own = "java/util/ArrayList") (first : Bool) {idx : Nat} (hl : Cond.fieldLink own idx "java/util/ArrayList" (if first then "EMPTY_ELEMENTDATA" else "DEFAULTCAPACITY_EMPTY_ELEMENTDATA") "[Ljava/lang/Object;" ∈ lw_all) (hdg : decode cc pc = .ok (.getstatic idx, 3))
    (kk : W p l e R s m args below meth c H locs cells slots Q (F0 m (pc + 3) ls (.ref (if first then G.1 else G.2.1) :: rest))) : W p l e R s m args below meth c H locs cells slots Q (F0 m pc ls rest) := by
  obtain ⟨hx, hb, hml, hown', hts, -, -, -, hK⟩ := X
  cases first with
  | true => exact va_gets hx hb hK.2.2.2.2.2.2.2.1 hH.2 hown' (hts _ hl) (fun _ h => h) hdg kk
  | false => exact va_gets hx hb hK.2.2.2.2.2.2.2.2.1 hH.2 hown' (hts _ hl) (fun _ h => h) hdg kk
theorem zc_ldcM (X : zc_Cx p l s m args meth c cc nL ret own D cA P G) {idx : Nat} (hl : Cond.classLink own idx "[Ljava/lang/Object;" ∈ lw_all) (hdg : decode cc pc = .ok (.ldc idx, 2))
    (kk : W p l e R s m args below meth c H locs cells slots Q (F0 m (pc + 2) ls (.ref G.2.2 :: rest))) : W p l e R s m args below meth c H locs cells slots Q (F0 m pc ls rest) := by
  obtain ⟨hx, hb, hml, hown', hts, -, -, -, hK⟩ := X
  exact va_ldcM hx hb hown' (hts _ hl) hK.2.2.2.2.2.2.2.2.2.1 hdg kk
theorem zc_getC (X : zc_Cx p l s m args meth c cc nL ret own D cA P G) (hH : zc_H D cA P h s H locs) (hsz : ls.size = nL) {a : Nat} (ha : zt h a = 22) {idx : Nat} (hlink : Cond.methodLink own idx ⟨"java/lang/Object", "getClass", "()Ljava/lang/Class;"⟩ ∈ lw_all) (hsel : Cond.selects "[Ljava/lang/Object;" ⟨"java/lang/Object", "getClass", "()Ljava/lang/Class;"⟩ ⟨"java/lang/Object", "getClass", "()Ljava/lang/Class;"⟩ ∈ lw_all) (hinst : Cond.instanceMethod ⟨"java/lang/Object", "getClass", "()Ljava/lang/Class;"⟩ ∈ lw_all) (hnat : Cond.native ⟨"java/lang/Object", "getClass", "()Ljava/lang/Class;"⟩ ∈ lw_all)
    (hframes : 1 ≤ R.frames) (hlocals : (rest.map fun v => v.category).sum + 14 ≤ R.locals) (hdg : decode cc pc = .ok (.invokevirtual idx, 3))
    (kk : W p l e R s m args below meth c H locs cells slots Q (F0 m (pc + 3) ls (.ref G.2.2 :: rest))) : W p l e R s m args below meth c H locs cells slots Q (F0 m pc ls (.ref a :: rest)) := by
  obtain ⟨cell, g1, g2, g3⟩ := zc_cell X hH (a := a) (by omega)
  rw [ha] at g3
  obtain ⟨hx, hb, hml, hown', hts, -, -, -, hK⟩ := X
  exact va_getC hx hb (hml.trans hsz.symm) hown' (hts _ hlink) (va_Dc.use hK.2.2.2.2.2.2.2.2.2.2.1) (hts _ hsel) (hts _ hinst) (hts _ hnat) hK.2.2.2.2.2.2.2.2.2.1 ⟨cell, g1, by rw [g2]; rfl, g3⟩ hframes hlocals hdg kk
end ZC3
theorem zc_modules {s U : State} (h : s.vm.Alike U.vm) (hm : modulesRight_1 s = true) : modulesRight_1 U = true := by
  have e : U.vm.modules = s.vm.modules := by rw [h.1]
  unfold modulesRight_1 at hm ⊢
  rw [e]; exact hm
theorem zc_nwA {w : Cond} (hw : w.onTables = true) {u U : State} (h : (w.before #[] (u.setVm U.vm)) = true) : va_Nw w U := va_tabs hw (rfl : (u.setVm U.vm).vm = U.vm) h
theorem zc_K.moved {D : va_G} {cA : Nat → ClassId} {P : Nat → Prop} {G : Nat × Nat × Nat} {u U : State} (hW : u.WarmedH U.vm) (hz : u.heap.size ≤ U.heap.size) (hk : ∀ a : Nat, a < u.heap.size → ¬ P a → U.heap[a]? = u.heap[a]?) (h : zc_K D cA P G u) : zc_K D cA P G U := by
  obtain ⟨h1, h2, h3, h4, h5, h6, h7, h8, h9, h10, h11, h12, h13, h14, h15, h16, h17, h18, h19, h20, h21, h22, h23⟩ := h
  have hv := hW.alike
  refine ⟨va_K.moved hv h1, fun q hq => va_Nw.warmC hW (h2 q hq), fun q hq => (h3 q hq).moved hv, fun q hq => va_Nw.warmM hW (h4 q hq), fun q hq => va_Nw.warmF hW (h5 q hq), fun q hq => (h6 q hq).moved hv, fun q hq => h7 q (Nat.le_trans hz hq),
    va_Z.moved hv (h8.kept hk), va_Z.moved hv (h9.kept hk), h10.moved hv, h11.moved hv, vx_Zq.moved hv (h12.kept hk), vx_Zq.moved hv (h13.kept hk), zc_modules hv h14, ?_, fun q hq => va_Nw.warmD hW (h16 q hq), fun q hq => (h17 q hq).moved ?_ hv, fun q hq => ?_, fun w hw => word_at hW ?_ (h19 w hw), ?_, fun q hq => ?_, fun q hq => ?_, fun w hw => ?_⟩
  · obtain ⟨kA, k1, k2⟩ := h15
    obtain ⟨k', hk', he⟩ := hv.2.2 _ _ k1
    exact ⟨k', hk', by rw [he]; exact k2⟩
  · have : ∀ q ∈ zc_fw, q.2.1.cls ≠ "java/lang/invoke/MethodHandle" ∧ q.2.1.cls ≠ "java/lang/invoke/VarHandle" := by decide +kernel
    exact this q hq
  · exact ((Cond.landsInDefault_setVm (args' := #[]) hv (State.methodFound?_setVm hv _ _ _)).trans (h18 q hq))
  · refine good_of_word ?_
    have : ∀ w ∈ zc_gd, goodWord w = true := by decide +kernel
    exact this w hw
  · have e1 : (Cond.arrayOver (.array (.object "ChurchyardBook$Place"))).before #[] (u.setVm U.vm) = true := by rw [Cond.arrayOver_setVmC hv]; exact h20
    exact e1
  · refine zc_nwA (u := u) rfl ?_
    rw [Cond.publicMethod_setVm hv]; exact h21 q hq
  · refine zc_nwA (u := u) rfl ?_
    have e2 : ∀ q ∈ zc_ifm, q ∈ zc_decl ∧ (q.cls ≠ "java/lang/invoke/MethodHandle" ∧ q.cls ≠ "java/lang/invoke/VarHandle") := by decide +kernel
    obtain ⟨r, meth, hn, -⟩ := Cond.declares_spec (h16 q (e2 q hq).1)
    rw [Cond.interfaceMethod_setVm hv (r := r) hn (e2 q hq).2]
    exact h22 q hq
  · have h := h23 w hw
    have hm : zc_xm w = true := by
      have : zc_xw.all zc_xm = true := by decide +kernel
      exact List.all_eq_true.mp this w hw
    unfold zc_xm at hm
    rw [Bool.or_eq_true] at hm
    rcases hm with hm | hm
    · exact word_at hW (good_of_word hm) h
    · split at hm
      · exact va_Nw.warmC hW h
      · exact va_Nw.warmD hW h
      · cases hm
/-- the room of a method d calls deep, with C cells and S slots to spend -/
abbrev zc_Ro (d C S : Nat) : Room := { frames := d + 8, cells := C, slots := S, locals := 10240 + 40 * d }
def zc_Q (D : va_G) (cA : Nat → ClassId) (P : Nat → Prop) (QR : Option Value → ZH → Prop) : Array Value → State → Outcome → State → Prop := fun _ st oc t => (∃ (v : Option Value) (h' : ZH), oc = .returned v ∧ QR v h' ∧ zc_R D cA P h' t.heap) ∧ va_F P st t
def zc_X (D : va_G) (cA : Nat → ClassId) (P : Nat → Prop) (XR : String → Nat → ZH → Prop) : String → Nat → State → State → Prop := fun E q st t => (∃ h' : ZH, XR E q h' ∧ zc_R D cA P h' t.heap) ∧ va_F P st t
abbrev zc_Pc (D : va_G) (cA : Nat → ClassId) (P : Nat → Prop) (G : Nat × Nat × Nat) (As : List Value) (h : ZH) : Array Value → State → Prop := va_Pc As (fun U => zc_R D cA P h U.heap ∧ zc_K D cA P G U)
/-- a method's contract: it returns with QR or throws with XR -/
def zc_M (l : Launch) (y : MethodName) (ws : List Cond) (d : Nat) (D : va_G) (cA : Nat → ClassId) (P : Nat → Prop) (G : Nat × Nat × Nat) (As : List Value) (h : ZH) (C S : Nat) (QR : Option Value → ZH → Prop) (XR : String → Nat → ZH → Prop) : Prop :=
  vx_Met l y ws (zc_Ro d C S) (zc_Pc D cA P G As h) (zc_Q D cA P QR) (zc_X D cA P XR) C S P
abbrev zc_no : String → Nat → ZH → Prop := fun _ _ _ => False
theorem zc_M.met {l : Launch} {y : MethodName} {ws : List Cond} {d : Nat} {D : va_G} {cA : Nat → ClassId} {P : Nat → Prop} {G : Nat × Nat × Nat} {As : List Value} {h : ZH} {C S : Nat} {QR : Option Value → ZH → Prop} (hM : zc_M l y ws d D cA P G As h C S QR zc_no) : Met l y ws (zc_Ro d C S) (zc_Pc D cA P G As h) (zc_Q D cA P QR) C S P := by
  intro p e ha hc hk s m args below hf happ hP hT
  obtain ⟨k, o, h1, h2, h3, hQ⟩ := hM p e ha hc hk s m args below hf happ hP hT
  refine ⟨k, o, h1, h2, h3, ?_⟩
  rcases hQ with hQ | ⟨q, -, E, ce, L, ⟨⟨h', hx, -⟩, -⟩, -⟩
  · exact hQ
  · exact hx.elim
section ZC4
variable {p : Program} {l : Launch} {e : Env} {R : Room} {s : State} {m : MethodId} {args : Array Value} {below : List Frame} {meth : Method} {c : Code} {H : Heap} {locs : List Loc} {cells slots : Nat} {Q : State → Prop}
variable {cc : ByteArray} {nL pc : Nat} {ret : Option FieldType} {own : String} {ls : Array Slot} {rest : List Value} {D : va_G} {cA : Nat → ClassId} {P : Nat → Prop} {G : Nat × Nat × Nat} {h : ZH} {cr sr : Nat}
variable {QR : Option Value → ZH → Prop} {XR : String → Nat → ZH → Prop}
theorem zc_preS (X : zc_Cx p l s m args meth c cc nL ret own D cA P G) (hH : zc_H D cA P h s H locs) {As : List Value} : PreS s H (zc_Pc D cA P G As h) As :=
  ⟨fun a U g mk q => ⟨q.1, q.2.1, zc_K.moved (u := U) (U := U.calling g mk a) (State.WarmedH.refl U) (Nat.le_refl _) (fun _ _ _ => rfl) q.2.2⟩, fun U hU hW => ⟨rfl, by rw [hU]; exact hH.1, zc_K.moved hW (by rw [hU]; exact hH.2.1) (by rw [hU]; exact hH.2.2.1) X.2.2.2.2.2.2.2.2⟩⟩
theorem zc_preV (X : zc_Cx p l s m args meth c cc nL ret own D cA P G) (hH : zc_H D cA P h s H locs) {As : List Value} {a : Nat} {C : String} {t : Nat} (ht : zt h a = t) (h0 : t ≠ 0) (hC : zc_nmT t = C) : PreV s H C a (zc_Pc D cA P G (.ref a :: As) h) As := by
  obtain ⟨cell, g1, g2, g3⟩ := zc_cell X hH (a := a) (by rw [ht]; exact h0)
  rw [ht, hC] at g3
  exact ⟨(zc_preS X hH).1, ⟨cell, g1, by rw [g2]; rfl, g3⟩, (zc_preS X hH).2⟩
/-- behind a call -/
theorem zc_go {st0 : List Value} {mc ms : Nat} {a : Array Value} (hr : vx_Run p l e R s m args below meth c H locs cells slots mc ms (F0 m pc ls st0) rest (zc_Q D cA P QR a) (zc_X D cA P XR) P) (hH : zc_H D cA P h s H locs)
    (kx : ∀ (E : String) (ce : Cell) (q9 : Addr) (h' : ZH) (H1 : Heap) (locs1 : List Loc), XR E q9 h' → zc_H D cA P h' s H1 locs1 → H1[q9]? = some ce → ce.vm = .none → s.vm.findClass E = some ce.cls → vx_W p l e R s m args below meth c H1 locs1 (cells + mc) (slots + ms) Q (F0 m pc ls rest) q9)
    (kk : ∀ (v : Option Value) (h' : ZH) (H1 : Heap) (locs1 : List Loc), QR v h' → zc_H D cA P h' s H1 locs1 → W p l e R s m args below meth c H1 locs1 (cells + mc) (slots + ms) Q (F0 m (pc + 3) ls (v.toList ++ rest))) : W p l e R s m args below meth c H locs cells slots Q (F0 m pc ls st0) := by
  intro T hT X
  rcases hr T hT X with ⟨v, st₀, t, T', L, h0, X', hL, e1, e2, ⟨⟨v', h', hv, hp, hb⟩, hF⟩, st⟩ | ⟨q, st₀, t, T', L, E, ce, h0, X', hL, e1, e2, ⟨⟨h', hp, hb⟩, hF⟩, hce, hcv, hcl, st⟩
  · cases hv
    obtain ⟨k1, k2, k3⟩ := vx_keep h0 e1 hH.2 (fun q _ h => h) (fun q h => h) hL hF
    obtain ⟨t2, a1, b1⟩ := kk v h' T'.heap (locs ++ L) hp ⟨by rw [e1]; exact hb, k3⟩ T' rfl X'
    exact ⟨t2, st t2 a1, b1⟩
  · obtain ⟨k1, k2, k3⟩ := vx_keep h0 e1 hH.2 (fun q _ h => h) (fun q h => h) hL hF
    obtain ⟨t2, a1, b1⟩ := kx E ce q h' T'.heap (locs ++ L) hp ⟨by rw [e1]; exact hb, k3⟩ (by rw [e1]; exact hce) hcv hcl T' rfl X'
    exact ⟨t2, st.trans a1, b1⟩
theorem zc_go5 {st0 : List Value} {mc ms : Nat} {a : Array Value} (hr : vx_Run5 p l e R s m args below meth c H locs cells slots mc ms (F0 m pc ls st0) rest (zc_Q D cA P QR a) (zc_X D cA P zc_no) P) (hH : zc_H D cA P h s H locs)
    (kk : ∀ (v : Option Value) (h' : ZH) (H1 : Heap) (locs1 : List Loc), QR v h' → zc_H D cA P h' s H1 locs1 → W p l e R s m args below meth c H1 locs1 (cells + mc) (slots + ms) Q (F0 m (pc + 5) ls (v.toList ++ rest))) : W p l e R s m args below meth c H locs cells slots Q (F0 m pc ls st0) := by
  intro T hT X
  rcases hr T hT X with ⟨v, st₀, t, T', L, h0, X', hL, e1, e2, ⟨⟨v', h', hv, hp, hb⟩, hF⟩, st⟩ | ⟨q, st₀, t, T', L, E, ce, h0, X', hL, e1, e2, ⟨⟨h', hp, hb⟩, hF⟩, hce, hcv, hcl, st⟩
  · cases hv
    obtain ⟨k1, k2, k3⟩ := vx_keep h0 e1 hH.2 (fun q _ h => h) (fun q h => h) hL hF
    obtain ⟨t2, a1, b1⟩ := kk v h' T'.heap (locs ++ L) hp ⟨by rw [e1]; exact hb, k3⟩ T' rfl X'
    exact ⟨t2, st t2 a1, b1⟩
  · exact hp.elim
theorem zc_ret0 {X0 : String → Nat → State → State → Prop} (X : zc_Cx p l s m args meth c cc nL ret own D cA P G) (hH : zc_H D cA P h s H locs) {v : Option Value} (hF : QR v h) (t : State) (ht : t.heap = H) : zc_Q D cA P QR args s (.returned v) t := ⟨⟨v, h, rfl, hF, by rw [ht]; exact hH.1⟩, hH.2.F ht⟩
theorem zc_iret {C S d : Nat} {XC : String → Nat → State → State → Prop} (X : zc_Cx p l s m args meth c cc nL ret own D cA P G) (hH : zc_H D cA P h s H locs) (hB : cells + cr ≤ C ∧ slots + sr ≤ S) {ty : FieldType} (hret : ret = some ty) {x : Int32} (hn : narrow ty (.int x) = .int x) (hF : QR (some (.int x)) h) (hdg : decode cc pc = .ok (.ireturn, 1)) :
    W p l e (zc_Ro d C S) s m args below meth c H locs cells slots (vx_MQ below (zc_Q D cA P QR) XC args s C S P) (F0 m pc ls [.int x]) :=
  vx_ret (W.widen (k := C) (n := S) (by omega) (by omega) (W.zret X.1 X.2.1 (X.2.2.2.2.2.1.trans hret) hn (fun t ht hW => zc_ret0 (X0 := XC) X hH hF t ht) hH.2.2.2 hdg X.2.2.2.2.2.2.1))
theorem zc_vret {C S d : Nat} {XC : String → Nat → State → State → Prop} (X : zc_Cx p l s m args meth c cc nL ret own D cA P G) (hH : zc_H D cA P h s H locs) (hB : cells + cr ≤ C ∧ slots + sr ≤ S) (hret : ret = none) (hF : QR none h) (hdg : decode cc pc = .ok (.return_, 1)) :
    W p l e (zc_Ro d C S) s m args below meth c H locs cells slots (vx_MQ below (zc_Q D cA P QR) XC args s C S P) (F0 m pc ls []) :=
  vx_ret (W.widen (k := C) (n := S) (by omega) (by omega) (W.vret X.1 X.2.1 (X.2.2.2.2.2.1.trans hret) (fun t ht hW => zc_ret0 (X0 := XC) X hH hF t ht) hH.2.2.2 hdg X.2.2.2.2.2.2.1))
theorem zc_aret {C S d : Nat} {XC : String → Nat → State → State → Prop} (X : zc_Cx p l s m args meth c cc nL ret own D cA P G) (hH : zc_H D cA P h s H locs) (hB : cells + cr ≤ C ∧ slots + sr ≤ S) {rt : FieldType} (hret : ret = some rt) (hrt : (∃ n, rt = .object n) ∨ ∃ t, rt = .array t) {r : Option Nat} {v : Value} (hv : v = va_rf r) (hF : QR (some (va_rf r)) h) (hdg : decode cc pc = .ok (.areturn, 1)) :
    W p l e (zc_Ro d C S) s m args below meth c H locs cells slots (vx_MQ below (zc_Q D cA P QR) XC args s C S P) (F0 m pc ls [v]) := by
  subst hv
  exact vx_ret (W.widen (k := C) (n := S) (by omega) (by omega) (W.aret X.1 X.2.1 (X.2.2.2.2.2.1.trans hret) hrt (va_rf_or r) (fun t ht hW => zc_ret0 (X0 := XC) X hH hF t ht) hH.2.2.2 hdg X.2.2.2.2.2.2.1))
/-- a thrown object leaves a method without handlers -/
theorem zc_out {C S d : Nat} (X : zc_Cx p l s m args meth c cc nL ret own D cA P G) (hH : zc_H D cA P h s H locs) (hB : cells + cr ≤ C ∧ slots + sr ≤ S) (hno : ∀ x ∈ c.exceptionTable.toList, False) {E : String} {ce : Cell} {q : Addr} (hcell : H[q]? = some ce) (hv : ce.vm = .none) (hcl : s.vm.findClass E = some ce.cls) (hF : XR E q h) {QC : Array Value → State → Outcome → State → Prop} :
    vx_W p l e (zc_Ro d C S) s m args below meth c H locs cells slots (vx_MQ below QC (zc_X D cA P XR) args s C S P) (F0 m pc ls rest) q :=
  vx_out (fun x hx => (hno x hx).elim) X.2.2.2.2.2.2.1 hcell hv hcl (fun t ht hW => ⟨⟨h, hF, by rw [ht]; exact hH.1⟩, hH.2.F ht⟩) hH.2.2.2 (by omega) (by omega)
end ZC4
theorem zc_gdg : ∀ w ∈ zc_gd, goodWord w = true := by decide +kernel
theorem zc_gdat {D : va_G} {cA : Nat → ClassId} {P : Nat → Prop} {G : Nat × Nat × Nat} {s : State} {args : Array Value} (hK : zc_K D cA P G s) : ∀ w ∈ zc_gd, w.before args s = true :=
  fun w hw => word_at (State.WarmedH.refl s) (good_of_word (zc_gdg w hw)) (hK.2.2.2.2.2.2.2.2.2.2.2.2.2.2.2.2.2.2.1 w hw)
section ZC5
variable {p : Program} {l : Launch} {e : Env} {R : Room} {s : State} {m : MethodId} {args : Array Value} {below : List Frame} {meth : Method} {c : Code} {H : Heap} {locs : List Loc} {cells slots : Nat} {Q : State → Prop}
variable {cc : ByteArray} {nL pc : Nat} {ret : Option FieldType} {own : String} {ls : Array Slot} {rest : List Value} {D : va_G} {cA : Nat → ClassId} {P : Nat → Prop} {G : Nat × Nat × Nat} {h : ZH} {cr sr : Nat}
variable {QR : Option Value → ZH → Prop} {XR : String → Nat → ZH → Prop}
/-- behind a call, with what is left to spend -/
theorem zc_call {st0 : List Value} {c1 s1 : Nat} {a : Array Value} (hH : zc_H D cA P h s H locs) (hB : cells + cr ≤ R.cells ∧ slots + sr ≤ R.slots) (hc : c1 ≤ cr) (hs : s1 ≤ sr)
    (hr : (cells + c1 ≤ R.cells ∧ slots + s1 ≤ R.slots) → vx_Run p l e R s m args below meth c H locs cells slots c1 s1 (F0 m pc ls st0) rest (zc_Q D cA P QR a) (zc_X D cA P XR) P)
    (kx : ∀ (E : String) (ce : Cell) (q9 : Addr) (h' : ZH) (H1 : Heap) (locs1 : List Loc), XR E q9 h' → zc_H D cA P h' s H1 locs1 → (cells + c1) + (cr - c1) ≤ R.cells ∧ (slots + s1) + (sr - s1) ≤ R.slots → H1[q9]? = some ce → ce.vm = .none → s.vm.findClass E = some ce.cls → vx_W p l e R s m args below meth c H1 locs1 (cells + c1) (slots + s1) Q (F0 m pc ls rest) q9)
    (kk : ∀ (v : Option Value) (h' : ZH) (H1 : Heap) (locs1 : List Loc), QR v h' → zc_H D cA P h' s H1 locs1 → (cells + c1) + (cr - c1) ≤ R.cells ∧ (slots + s1) + (sr - s1) ≤ R.slots → W p l e R s m args below meth c H1 locs1 (cells + c1) (slots + s1) Q (F0 m (pc + 3) ls (v.toList ++ rest))) : W p l e R s m args below meth c H locs cells slots Q (F0 m pc ls st0) :=
  zc_go (hr (by omega)) hH (fun E ce q9 h' H1 locs1 a1 a2 => kx E ce q9 h' H1 locs1 a1 a2 (by omega)) (fun v h' H1 locs1 a1 a2 => kk v h' H1 locs1 a1 a2 (by omega))
theorem zc_call5 {st0 : List Value} {c1 s1 : Nat} {a : Array Value} (hH : zc_H D cA P h s H locs) (hB : cells + cr ≤ R.cells ∧ slots + sr ≤ R.slots) (hc : c1 ≤ cr) (hs : s1 ≤ sr)
    (hr : (cells + c1 ≤ R.cells ∧ slots + s1 ≤ R.slots) → vx_Run5 p l e R s m args below meth c H locs cells slots c1 s1 (F0 m pc ls st0) rest (zc_Q D cA P QR a) (zc_X D cA P zc_no) P)
    (kk : ∀ (v : Option Value) (h' : ZH) (H1 : Heap) (locs1 : List Loc), QR v h' → zc_H D cA P h' s H1 locs1 → (cells + c1) + (cr - c1) ≤ R.cells ∧ (slots + s1) + (sr - s1) ≤ R.slots → W p l e R s m args below meth c H1 locs1 (cells + c1) (slots + s1) Q (F0 m (pc + 5) ls (v.toList ++ rest))) : W p l e R s m args below meth c H locs cells slots Q (F0 m pc ls st0) :=
  zc_go5 (hr (by omega)) hH (fun v h' H1 locs1 a1 a2 => kk v h' H1 locs1 a1 a2 (by omega))
theorem zc_IsOf (X : zc_Cx p l s m args meth c cc nL ret own D cA P G) (hH : zc_H D cA P h s H locs) {a t : Nat} {C : String} (ht : zt h a = t) (h0 : t ≠ 0) (hC : zc_nmT t = C) {T : State} (hT : T.heap = H) : ∃ (cB : ClassId) (kB : Class), s.vm.findClass C = some cB ∧ s.vm.classes[cB]? = some kB ∧ IsOf cB T a := by
  obtain ⟨cell, g1, g2, g3⟩ := zc_cell X hH (a := a) (by rw [ht]; exact h0)
  rw [ht, hC] at g3
  obtain ⟨kB, hkB, -⟩ := Vm.findClass_spec g3
  exact ⟨_, kB, g3, hkB, cell, by rw [hT]; exact g1, rfl, by rw [g2]; rfl⟩
/-- a virtual call that lands in an interface's own default -/
theorem zc_runD (X : zc_Cx p l s m args meth c cc nL ret own D cA P G) (hH : zc_H D cA P h s H locs) {x y : MethodName} {ws ws' : List Cond} {rm : Room} {mc ms n idx maxL : Nat} {bytes : ByteArray} {ret' : Option FieldType} {As : List Value} {C owner : String} {a t : Nat} (ht : zt h a = t) (h0 : t ≠ 0) (hC : zc_nmT t = C) {Qc : Array Value → State → Outcome → State → Prop} {XC : String → Nat → State → State → Prop} {st0 : List Value}
    (hM : Met l y ws rm (zc_Pc D cA P G (.ref a :: As) h) Qc mc ms P) (hG : GoodIn lw_all ws) (hw : ws = Cond.code y bytes maxL ret' :: ws') (hrc : rm.cells = mc) (hrs : rm.slots = ms) (hR : rm.frames + 1 ≤ R.frames ∧ 8 + (maxL + 11) + rm.locals ≤ R.locals)
    (hlink : Cond.methodLink own idx x ∈ zc_gd) (hsame : Cond.sameMethod x.cls owner x.name x.desc ∈ zc_gd) (hdecl : (⟨owner, x.name, x.desc⟩ : MethodName) ∈ zc_decl) (howner : owner ≠ "java/lang/invoke/MethodHandle" ∧ owner ≠ "java/lang/invoke/VarHandle") (hsel : (C, x, y) ∈ zc_lid) (hinst : Cond.instanceMethod y ∈ lw_all) (hini : Cond.initialized y.cls ∈ lw_all)
    (hn : As.length = n) (hlen : (parseMethodDescriptor x.desc).map (fun d => d.parameters.length) = some n) (hsize : ls.size = nL) (hst : st0 = As.reverse ++ .ref a :: rest) (hcat : (rest.map fun v => v.category).sum ≤ 8) (hdg : decode cc pc = .ok (.invokevirtual idx, 3)) (hf : cells + mc ≤ R.cells ∧ slots + ms ≤ R.slots) :
    vx_Run p l e R s m args below meth c H locs cells slots mc ms (F0 m pc ls st0) rest (Qc (Value.ref a :: As).toArray) XC P := by
  subst hst
  obtain ⟨hx, hb, hml, hown, hts, -, -, -, hK⟩ := id X
  have hc : Cond.code y bytes maxL ret' ∈ ws := by rw [hw]; exact List.mem_cons_self
  have hpre := zc_preS X hH (As := .ref a :: As)
  have hKb : Back l R p e below s args y 3 8 (PreOf R mc ms (zc_Pc D cA P G (.ref a :: As) h)) (PostOf Qc mc ms P) := back_of (bytes := bytes) (maxL := maxL) (ret := ret') hM hpre.1 hrc hrs hR.1 hR.2 (pay_in hts hG) hc (fun a' U hW => word_at hW (Or.inl (by first | rfl | simp [Cond.onTables, Cond.keeps, Cond.steady])) (hts _ hini))
  intro T hT X1
  obtain ⟨cB, kB, q1, q2, q3⟩ := zc_IsOf X hH ht h0 hC hT
  have gd : ∀ w ∈ zc_gd, w.before args s = true := zc_gdat hK
  have hlid : (Cond.landsInDefault C x y).before args s = true := hK.2.2.2.2.2.2.2.2.2.2.2.2.2.2.2.2.2.1 _ hsel
  obtain ⟨v, vm₁, ⟨U', l2, c2, s2⟩, hW₁, X', ⟨g', mk, t', L, e1, e2, hq, h1, hL, h2, h3⟩, st⟩ := X1.virtualBackUpD hx (C := C) (owner := owner) (x := x) hown (gd _ hlink) (gd _ hsame) (va_Nw.use rfl (hK.2.2.2.2.2.2.2.2.2.2.2.2.2.2.2.1 _ hdecl)) howner hlid (hts _ hinst) hKb q1 q3 (g := F0 m pc ls (As.reverse ++ .ref a :: rest)) rfl (hsize.trans hml.symm) (Steps.refl _) (argsL := As) (rest := rest) (fun sig h => by rw [h] at hlen; exact hn.trans (Option.some.inj hlen).symm) rfl (lv_room hcat) (by rw [hb]; exact hdg)
    (fun vm₁ hW₁ => ⟨hf.1, hf.2, hpre.2 (T.setVm vm₁) hT hW₁⟩)
  dsimp only [Pt.U, Pt.locs, Pt.cells, Pt.slots] at X' e1 e2 h1 h2 h3 st
  subst h1; subst h2; subst h3
  exact Or.inl ⟨v, (T.setVm vm₁).calling g' mk (Value.ref a :: As).toArray, t', U', L, hT, X', hL, e1, e2, hq, fun target htg => st.trans htg⟩
/-- an interface call that lands in the interface's own default -/
theorem zc_runID (X : zc_Cx p l s m args meth c cc nL ret own D cA P G) (hH : zc_H D cA P h s H locs) {x y : MethodName} {ws ws' : List Cond} {rm : Room} {mc ms n idx cnt maxL : Nat} {bytes : ByteArray} {ret' : Option FieldType} {As : List Value} {C : String} {a t : Nat} (ht : zt h a = t) (h0 : t ≠ 0) (hC : zc_nmT t = C) {Qc : Array Value → State → Outcome → State → Prop} {XC : String → Nat → State → State → Prop} {st0 : List Value}
    (hM : Met l y ws rm (zc_Pc D cA P G (.ref a :: As) h) Qc mc ms P) (hG : GoodIn lw_all ws) (hw : ws = Cond.code y bytes maxL ret' :: ws') (hrc : rm.cells = mc) (hrs : rm.slots = ms) (hR : rm.frames + 1 ≤ R.frames ∧ 8 + (maxL + 11) + rm.locals ≤ R.locals)
    (hlink : Cond.methodLink own idx x ∈ lw_all) (hdecl : x ∈ zc_decl) (hface : x ∈ zc_ifm) (hsel : (C, x, y) ∈ zc_lid) (hpub : y ∈ zc_pub) (hcast : (C, x.cls) ∈ zc_casts) (hxh : x.cls ≠ "java/lang/invoke/MethodHandle" ∧ x.cls ≠ "java/lang/invoke/VarHandle") (hinst : Cond.instanceMethod y ∈ lw_all) (hini : Cond.initialized y.cls ∈ lw_all)
    (hn : As.length = n) (hlen : (parseMethodDescriptor x.desc).map (fun d => d.parameters.length) = some n) (hsize : ls.size = nL) (hst : st0 = As.reverse ++ .ref a :: rest) (hcat : (rest.map fun v => v.category).sum ≤ 8) (hdg : decode cc pc = .ok (.invokeinterface idx cnt, 5)) (hf : cells + mc ≤ R.cells ∧ slots + ms ≤ R.slots) :
    vx_Run5 p l e R s m args below meth c H locs cells slots mc ms (F0 m pc ls st0) rest (Qc (Value.ref a :: As).toArray) XC P := by
  subst hst
  obtain ⟨hx, hb, hml, hown, hts, -, -, -, hK⟩ := id X
  have hc : Cond.code y bytes maxL ret' ∈ ws := by rw [hw]; exact List.mem_cons_self
  have hpre := zc_preS X hH (As := .ref a :: As)
  have hKb : Back l R p e below s args y 5 8 (PreOf R mc ms (zc_Pc D cA P G (.ref a :: As) h)) (PostOf Qc mc ms P) := back_of (bytes := bytes) (maxL := maxL) (ret := ret') hM hpre.1 hrc hrs hR.1 hR.2 (pay_in hts hG) hc (fun a' U hW => word_at hW (Or.inl (by first | rfl | simp [Cond.onTables, Cond.keeps, Cond.steady])) (hts _ hini))
  intro T hT X1
  obtain ⟨cB, kB, q1, q2, q3⟩ := zc_IsOf X hH ht h0 hC hT
  have hlid : (Cond.landsInDefault C x y).before args s = true := hK.2.2.2.2.2.2.2.2.2.2.2.2.2.2.2.2.2.1 _ hsel
  obtain ⟨v, vm₁, ⟨U', l2, c2, s2⟩, hW₁, X', ⟨g', mk, t', L, e1, e2, hq, h1, hL, h2, h3⟩, st⟩ := X1.interfaceBackD hx (C := C) (xi := x) hown (hts _ hlink) (va_Nw.use rfl (hK.2.2.2.2.2.2.2.2.2.2.2.2.2.2.2.1 _ hdecl)) (va_Nw.use rfl (hK.2.2.2.2.2.2.2.2.2.2.2.2.2.2.2.2.2.2.2.2.2.1 _ hface)) hlid (hts _ hinst) (va_Nw.use rfl (hK.2.2.2.2.2.2.2.2.2.2.2.2.2.2.2.2.2.2.2.2.1 _ hpub)) (va_Nw.use rfl (hK.2.1 _ hcast)) hxh hKb q1 q2 q3 (g := F0 m pc ls (As.reverse ++ .ref a :: rest)) rfl (hsize.trans hml.symm) (Steps.refl _) (argsL := As) (rest := rest) (fun sig h => by rw [h] at hlen; exact hn.trans (Option.some.inj hlen).symm) rfl (lv_room hcat) (by rw [hb]; exact hdg)
    (fun vm₁ hW₁ => ⟨hf.1, hf.2, hpre.2 (T.setVm vm₁) hT hW₁⟩)
  dsimp only [Pt.U, Pt.locs, Pt.cells, Pt.slots] at X' e1 e2 h1 h2 h3 st
  subst h1; subst h2; subst h3
  exact Or.inl ⟨v, (T.setVm vm₁).calling g' mk (Value.ref a :: As).toArray, t', U', L, hT, X', hL, e1, e2, hq, fun target htg => st.trans htg⟩
/-- a thrown object caught by the method's one handler -/
theorem zc_catch (X : zc_Cx p l s m args meth c cc nL ret own D cA P G) {fr to tg ix : Nat} (hT : c.exceptionTable.toList = tableOf [(fr, to, tg, ix)]) (hpc : fr ≤ pc ∧ pc < to) (hix : ix ≠ 0) {E nm : String} {ce : Cell} {q : Addr} (hl : Cond.classLink own ix nm ∈ lw_all) (hc : (E, nm) ∈ zc_casts) (hcell : H[q]? = some ce) (hv : ce.vm = .none) (hcl : s.vm.findClass E = some ce.cls)
    (kk : W p l e R s m args below meth c H locs cells slots Q (F0 m tg ls [.ref q])) : vx_W p l e R s m args below meth c H locs cells slots Q (F0 m pc ls rest) q := by
  obtain ⟨hx, hb, hml, hown, hts, -, -, -, hK⟩ := X
  refine vx_catch hown [] _ [] hT (fun z hz => by cases hz) (by simp [covers, hpc]) hix (hts _ hl) (va_Nw.use rfl (hK.2.1 _ hc)) hcell hv hcl kk
/-- a thrown object leaves a method whose one handler doesn't take it -/
theorem zc_outP {C S d : Nat} (X : zc_Cx p l s m args meth c cc nL ret own D cA P G) (hH : zc_H D cA P h s H locs) (hB : cells + cr ≤ C ∧ slots + sr ≤ S) {fr to tg ix : Nat} (hT : c.exceptionTable.toList = tableOf [(fr, to, tg, ix)]) (hix : ix ≠ 0) {E nm : String} {ce : Cell} {q : Addr} (hl : Cond.classLink own ix nm ∈ lw_all) (hc : (pc < fr ∨ to ≤ pc) ∨ (E, nm) ∈ zc_nots) (hcell : H[q]? = some ce) (hv : ce.vm = .none) (hcl : s.vm.findClass E = some ce.cls) (hF : XR E q h) {QC : Array Value → State → Outcome → State → Prop} :
    vx_W p l e (zc_Ro d C S) s m args below meth c H locs cells slots (vx_MQ below QC (zc_X D cA P XR) args s C S P) (F0 m pc ls rest) q := by
  refine vx_outP X.2.2.2.1 X.2.2.2.2.2.2.1 (fun z hz => ?_) hcell hv hcl (fun t ht hW => ⟨⟨h, hF, by rw [ht]; exact hH.1⟩, hH.2.F ht⟩) hH.2.2.2 (by omega) (by omega)
  rw [hT] at hz
  have hz : z = { startPc := fr, endPc := to, handlerPc := tg, catchType := ix } := by simpa [tableOf] using hz
  subst hz
  rcases hc with hc | hc
  · left; simp [covers]; omega
  · exact Or.inr ⟨hix, nm, X.2.2.2.2.1 _ hl, X.2.2.2.2.2.2.2.2.2.2.1 _ hc⟩
end ZC5
section ZC6
variable {l : Launch} {D : va_G} {cA : Nat → ClassId} {P : Nat → Prop} {G : Nat × Nat × Nat} {h : ZH}
theorem zc_of {y : MethodName} {cc : ByteArray} {nL d C S : Nat} {ret : Option FieldType} {own : String} {As : List Value} {QR : Option Value → ZH → Prop} {XR : String → Nat → ZH → Prop} (hl : l.stackTraces = false) (hy : y.cls = own) (hpl : plainName own = true) (hnl : (lg_sl As).length ≤ nL)
    (body : ∀ (p : Program) (e : Env) (s : State) (m : MethodId) (args : Array Value) (below : List Frame) (meth : Method) (c : Code) (H : Heap) (locs : List Loc) (ls : Array Slot), zc_Cx p l s m args meth c cc nL ret own D cA P G → meth.name = y.name → c.exceptionTable.toList = tableOf [] → zc_H D cA P h s H locs → lv_has ls nL (lv_args 0 As) → W p l e (zc_Ro d C S) s m args below meth c H locs 0 0 (vx_MQ below (zc_Q D cA P QR) (zc_X D cA P XR) args s C S P) (F0 m 0 ls [])) :
    zc_M l y (ws_ y cc nL ret) d D cA P G As h C S QR XR := by
  refine vx_ofW (cc := cc) (maxL := nL) (ret := ret) (by rw [hy]; exact hpl) rfl ?_
  intro p e s m args below meth c s₁ B hml hno hv
  obtain ⟨rfl, hP, hK⟩ := hv
  have hts := atoms_spec (ws := ws_ y cc nL ret) B.pre
  have hts : ∀ w ∈ lw_all, w.before _ s = true := fun w h => hts w (List.mem_cons_of_mem _ h)
  have hown : s.vm.findClass own = some m.cls := hy ▸ findClass_of_methodNamed B.named
  have hlv := lv_entry As (n := nL) hnl
  rw [lg_entry_eq]
  exact body p e s m _ below meth c s.heap [] _ ⟨B.exec, B.bytes, hml, hown, hts, B.returns, B.notSynchronized, hl, hK⟩ (name_of_methodNamed B.named B.method).1 (List.eq_nil_iff_forall_not_mem.mpr fun x hx => hno x hx) ⟨hP, va_S.rf⟩ hlv
theorem zc_ofH {y : MethodName} {cc : ByteArray} {nL d C S : Nat} {ret : Option FieldType} {own : String} {As : List Value} {QR : Option Value → ZH → Prop} {XR : String → Nat → ZH → Prop} (hh : List (Nat × Nat × Nat × Nat)) (hl : l.stackTraces = false) (hy : y.cls = own) (hpl : plainName own = true) (hnl : (lg_sl As).length ≤ nL)
    (body : ∀ (p : Program) (e : Env) (s : State) (m : MethodId) (args : Array Value) (below : List Frame) (meth : Method) (c : Code) (H : Heap) (locs : List Loc) (ls : Array Slot), zc_Cx p l s m args meth c cc nL ret own D cA P G → meth.name = y.name → c.exceptionTable.toList = tableOf hh → zc_H D cA P h s H locs → lv_has ls nL (lv_args 0 As) → W p l e (zc_Ro d C S) s m args below meth c H locs 0 0 (vx_MQ below (zc_Q D cA P QR) (zc_X D cA P XR) args s C S P) (F0 m 0 ls [])) :
    zc_M l y (wsW_ y cc nL ret hh) d D cA P G As h C S QR XR := by
  refine vx_ofWH (cc := cc) (maxL := nL) (ret := ret) (hh := hh) (by rw [hy]; exact hpl) rfl ?_
  intro p e s m args below meth c s₁ B hml hv
  obtain ⟨rfl, hP, hK⟩ := hv
  have hts0 := atoms_spec (ws := wsW_ y cc nL ret hh) B.pre
  have hts : ∀ w ∈ lw_all, w.before _ s = true := fun w h => hts0 w (List.mem_cons_of_mem _ h)
  have hown : s.vm.findClass own = some m.cls := hy ▸ findClass_of_methodNamed B.named
  have hlv := lv_entry As (n := nL) hnl
  rw [lg_entry_eq]
  exact body p e s m _ below meth c s.heap [] _ ⟨B.exec, B.bytes, hml, hown, hts, B.returns, B.notSynchronized, hl, hK⟩ (name_of_methodNamed B.named B.method).1 (vx_table (x := y) B (hts0 _ List.mem_cons_self)) ⟨hP, va_S.rf⟩ hlv
end ZC6
