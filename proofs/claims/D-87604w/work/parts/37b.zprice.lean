/-! PRICES and years are small numbers. -/
set_option maxRecDepth 100000
section ZPC
variable {n : Nat} {σ σ' : ZS}
theorem nI_lit {k : Nat} : (OfNat.ofNat k : Int32) = nI k := rfl
theorem nI_inj {a b : Nat} (ha : a < 2 ^ 31) (hb : b < 2 ^ 31) (h : nI a = nI b) : a = b := (nI_eq ha hb).mp h
theorem nI_neg1 {a : Nat} (ha : a < 2 ^ 31) : ¬ nI a = -1 := fun z => nI_pos ha (z ▸ (by decide : (-1 : Int32) < 0))
theorem nI_pred' {a : Nat} (h : 0 < a) : nI a - 1 = nI (a - 1) := by
  obtain ⟨b, rfl⟩ : ∃ b, a = b + 1 := ⟨a - 1, by omega⟩
  rw [nI_pred]; rfl
theorem sWide_m {k w : Int32} {m : Nat} (h : sWide k w) (hw : w = nI m) (hm : m < 2 ^ 31) : (k = 3 ∧ 2 ≤ m ∧ m ≤ 4) ∨ (k = 5 ∧ m = 3) ∨ (¬ k = 3 ∧ ¬ k = 5 ∧ m = 1) := by
  unfold sWide at h
  rw [hw] at h
  by_cases k3 : k = 3
  · rw [if_pos k3] at h
    exact Or.inl ⟨k3, Classical.byContradiction fun q => h.1 (nI_lt (b := 2) (by omega) (by omega)), Classical.byContradiction fun q => h.2 (nI_lt (a := 4) (by omega) (by omega))⟩
  · rw [if_neg k3] at h
    by_cases k5 : k = 5
    · rw [if_pos k5] at h
      exact Or.inr (Or.inl ⟨k5, nI_inj (b := 3) hm (by omega) h⟩)
    · rw [if_neg k5] at h
      exact Or.inr (Or.inr ⟨k3, k5, nI_inj (b := 1) hm (by omega) h⟩)
theorem sYearly_n {g : Nat} (I : sInvG n σ g) : ∃ y, y ≤ 55 ∧ sYearly σ g = nI y := by
  obtain ⟨-, -, hw, ⟨f, r, k, m, h1, h2, h3, h4, -⟩, -⟩ := I
  obtain ⟨m', m1, m4, em⟩ := sWide_n hw
  have h := sWide_m hw em (by omega)
  unfold sYearly
  rw [em]
  by_cases k3 : sa σ 10 g = 3
  · rw [if_pos k3]
    refine ⟨10 * m' + 5 * (m' - 1), by omega, ?_⟩
    rw [nI_pred' (by omega)]
    show nI 10 * nI m' + nI 5 * nI (m' - 1) = _
    rw [pk_mul, pk_mul, nI_add]
  · rw [if_neg k3]
    refine ⟨10 * m', by omega, ?_⟩
    show nI 10 * nI m' = _
    rw [pk_mul]
theorem sYears_n {g : Nat} {v : Int32} (h : ∃ x, sa σ 605 g = nI x ∧ x ≤ 2) : ∃ y, 10 ≤ y ∧ y ≤ 28 ∧ sYears σ g v = nI y := by
  obtain ⟨x, x1, x2⟩ := h
  unfold sYears
  rw [x1]
  by_cases v0 : v = 0
  · rw [if_pos v0]
    refine ⟨20 + 4 * x, by omega, by omega, ?_⟩
    show nI 20 + nI 4 * nI x = _
    rw [pk_mul, nI_add]
  · rw [if_neg v0]
    by_cases v2 : v = 2
    · rw [if_pos v2]
      refine ⟨12 + 2 * x, by omega, by omega, ?_⟩
      show nI 12 + nI 2 * nI x = _
      rw [pk_mul, nI_add]
    · rw [if_neg v2]; exact ⟨10, by omega, by omega, rfl⟩
theorem sEnd_n {g : Nat} {v : Int32} {t : Nat} (ht : sa σ 203 0 = nI t) (h : ∃ x, sa σ 605 g = nI x ∧ x ≤ 2) : ∃ e, sEnd σ g v = nI e ∧ e ≤ t + 10220 ∧ t + 3650 ≤ e := by
  obtain ⟨y, y1, y2, y3⟩ := sYears_n (v := v) h
  refine ⟨t + 365 * y, ?_, by omega, by omega⟩
  unfold sEnd
  rw [ht, y3]
  show nI t + nI 365 * nI y = _
  rw [pk_mul, nI_add]
theorem sLacks_n {g d e : Nat} (hd : sa σ 608 g = nI d) (hd2 : d < 1000000) (he : e < 1000000) : sLacks σ g (nI e) = nI (if d < e then (e - d + 364) / 365 else 0) := by
  unfold sLacks
  rw [hd]
  by_cases q : d < e
  · rw [if_pos (nI_lt q (by omega)), if_pos q, zs_sub (by omega)]
    have e1 : nI (e - d) + 365 - 1 = nI (e - d + 364) := by
      show nI (e - d) + nI 365 - 1 = _
      rw [nI_add, nI_pred' (by omega)]; rfl
    rw [e1]
    exact pk_div (a := e - d + 364) (d := 365) (by omega) (by omega) (by omega)
  · rw [if_neg (nI_nlt (by omega) (by omega)), if_neg q]; rfl
theorem sLaid_n {g p : Nat} {c k : Int32} {y z : Nat} (hy : sYearly σ g = nI y) (hz : sYrs σ g p = nI z) : ∃ v, (sLaid σ g p c k).1 = nI v ∧ v ≤ 80 + z * y := by
  unfold sLaid
  simp only []
  rw [hy, hz, pk_mul]
  have h1 : ∃ a, a ≤ 60 ∧ (if k = 0 then (60 : Int32) else if k = 1 then 25 else 30) = nI a := by
    split
    · exact ⟨60, by omega, rfl⟩
    split
    · exact ⟨25, by omega, rfl⟩
    · exact ⟨30, by omega, rfl⟩
  have h2 : ∃ a, a ≤ 20 ∧ (if sRoom σ g c (sa σ 203 0) = 1 then (20 : Int32) else 0) = nI a := by
    split
    · exact ⟨20, by omega, rfl⟩
    · exact ⟨0, by omega, rfl⟩
  obtain ⟨a, a1, a2⟩ := h1
  obtain ⟨b, b1, b2⟩ := h2
  rw [a2, b2, nI_add, nI_add]
  exact ⟨_, rfl, by omega⟩
theorem sInv.g605 (I : sInv n σ) {g : Nat} (hg : g < sn σ 1) : ∃ x, sa σ 605 g = nI x ∧ x ≤ 2 := by
  obtain ⟨f, r, k, m, h1, h2, h3, h4, h5, h6, h7, h8, h9⟩ := (I.2.2.2.1 g hg).1.2.2.2.1
  rw [h8]
  exact (I.2.2.2.2.1 f h5).1
theorem sInv.g608 (I : sInv n σ) {g : Nat} (hg : g < sn σ 1) : ∃ d, sa σ 608 g = nI d ∧ d ≤ 375200 := by
  obtain ⟨t, d, o, h1, h2, h3, -⟩ := (I.2.2.2.1 g hg).1.2.2.2.2.2.2.2.2.2
  have := I.1.1
  exact ⟨d, h2, by omega⟩
theorem sInv.yr_n (I : sInv n σ) {g : Nat} {y : Int32} (hg : g < sn σ 1) (h1 : ¬ y < 1) (h2 : ¬ 20 < y) : ¬ sYearly σ g * y < 0 := by
  obtain ⟨a, a1, a2⟩ := sYearly_n (I.2.2.2.1 g hg).1
  have h0 : ¬ y < 0 := fun q => h1 (Int32.lt_trans q (by decide))
  obtain ⟨j, hj, e⟩ := nI_of h0
  have j20 : j ≤ 20 := Classical.byContradiction fun q => h2 (by rw [e]; exact nI_lt (a := 20) (by omega) (by omega))
  rw [a2, e, pk_mul]
  refine nI_pos ?_
  have : a * j ≤ 55 * 20 := Nat.mul_le_mul a1 j20
  omega
theorem sYrs_20 {g p d e : Nat} {k : Int32} (hd : sa σ 608 g = nI d) (hd2 : d < 1000000) (he : sa σ 709 p = nI e) (he2 : e < 1000000) (h : sa σ 10 g = 5 ∨ sLacks σ g (sa σ 709 p) ≤ 20) : ∃ z, z ≤ 20 ∧ sYrs σ g p = nI z := by
  unfold sYrs
  by_cases k5 : sa σ 10 g = 5
  · rw [if_pos k5]; exact ⟨0, by omega, rfl⟩
  · rw [if_neg k5]
    have h := h.resolve_left k5
    rw [he, sLacks_n hd hd2 he2] at h ⊢
    refine ⟨_, ?_, rfl⟩
    refine (nI_leI (b := 20) ?_ (by omega)).mp h
    split <;> omega
theorem sInv.bury_n (I : sInv n σ) {g j : Nat} {c k : Int32} (hg : g < sn σ 1) (hj : j < sn σ 2) (h : sWhyG σ g c (some j) k (sEnd σ g k) 0 = 0) : ∃ v, (sBuryG σ g j c k).1 = nI v ∧ v ≤ 1180 := by
  obtain ⟨p', ep', -, -, -, -, -, -, -, -, hl⟩ := sWhyG_0 h
  obtain ⟨t, ht, ht2⟩ := I.2.1
  obtain ⟨d, d1, d2⟩ := I.g608 hg
  obtain ⟨e, e1, e2, e3⟩ := sEnd_n (v := k) ht (I.g605 hg)
  obtain ⟨y, y1, y2⟩ := sYearly_n (I.2.2.2.1 g hg).1
  have he : sa (sBury0 σ g j k) 709 j = nI e := by
    unfold sBury0
    rw [sa_au, if_pos ⟨rfl, rfl⟩]; exact e1
  have hh : sa (sBury0 σ g j k) 10 g = 5 ∨ sLacks (sBury0 σ g j k) g (sa (sBury0 σ g j k) 709 j) ≤ 20 := by
    rw [he, ← e1]
    exact hl.imp id fun z => z.2
  obtain ⟨z, z1, z2⟩ := sYrs_20 (k := k) (show sa (sBury0 σ g j k) 608 g = nI d from d1) (by omega) he (by omega) hh
  obtain ⟨v, v1, v2⟩ := sLaid_n (c := c) (k := k) (show sYearly (sBury0 σ g j k) g = nI y from y2) z2
  refine ⟨v, v1, ?_⟩
  have : z * y ≤ 20 * 55 := Nat.mul_le_mul z1 y1
  omega
theorem sLift_el {j : Nat} : sn (sLift σ j) = sn σ ∧ (∀ k i, ¬ k = 712 → sa (sLift σ j) k i = sa σ k i) ∧ sy (sLift σ j) = sy σ := by
  unfold sLift
  split
  · exact ⟨rfl, fun _ _ _ => rfl, rfl⟩
  · split
    · exact ⟨rfl, fun _ _ _ => rfl, rfl⟩
    · exact ⟨rfl, fun k i hk => by rw [sa_au, if_neg (fun z => hk z.1)]; rfl, rfl⟩
theorem sInv.move_n (I : sInv n σ) {g j : Nat} {c : Int32} (hg : g < sn σ 1) (hj : j < sn σ 2) (h : sWhyG σ g c (some j) (sa σ 708 j) (sa σ 709 j) 1 = 0) : ∃ v, (sLaid (sLift σ j) g j c (sa σ 708 j)).1 = nI v ∧ v ≤ 1180 := by
  obtain ⟨p', ep, -, -, -, -, -, -, -, -, hl⟩ := sWhyG_0 h
  obtain ⟨d, d1, d2⟩ := I.g608 hg
  obtain ⟨e, e1, e2⟩ := (I.2.2.1 j hj).2.2.2.2.2.1
  obtain ⟨y, y1, y2⟩ := sYearly_n (I.2.2.2.1 g hg).1
  obtain ⟨u1, u2, u3⟩ := @sLift_el σ j
  have hh : sa (sLift σ j) 10 g = 5 ∨ sLacks (sLift σ j) g (sa (sLift σ j) 709 j) ≤ 20 := by
    unfold sLacks
    rw [u2 10 g (by omega), u2 709 j (by omega), u2 608 g (by omega)]
    exact hl.imp id fun z => z.2
  have hy : sYearly (sLift σ j) g = nI y := by
    unfold sYearly
    rw [u2 10 g (by omega), u2 604 g (by omega)]; exact y2
  obtain ⟨z, z1, z2⟩ := sYrs_20 (k := c) ((u2 608 g (by omega)).trans d1) (by omega) ((u2 709 j (by omega)).trans e1) (by omega) hh
  obtain ⟨v, v1, v2⟩ := sLaid_n (c := c) (k := sa σ 708 j) hy z2
  refine ⟨v, v1, ?_⟩
  have : z * y ≤ 20 * 55 := Nat.mul_le_mul z1 y1
  omega
theorem sInv.move_nn (I : sInv n σ) {g j : Nat} {c : Int32} (hg : g < sn σ 1) (hj : j < sn σ 2) (h : sWhyG σ g c (some j) (sa σ 708 j) (sa σ 709 j) 1 = 0) : ¬ 90 + (sLaid (sLift σ j) g j c (sa σ 708 j)).1 < 0 := by
  obtain ⟨v, v1, v2⟩ := I.move_n hg hj h
  rw [v1]
  show ¬ nI 90 + nI v < 0
  rw [nI_add]; exact nI_pos (by omega)
theorem sInv.bury_nn (I : sInv n σ) {g j : Nat} {c k : Int32} (hg : g < sn σ 1) (hj : j < sn σ 2) (h : sWhyG σ g c (some j) k (sEnd σ g k) 0 = 0) : ¬ (sBuryG σ g j c k).1 < 0 := by
  obtain ⟨v, v1, v2⟩ := I.bury_n hg hj h
  rw [v1]; exact nI_pos (by omega)
end ZPC
