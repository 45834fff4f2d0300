/-! METHODS of the component on the picture of a book: rights. -/
set_option maxRecDepth 100000
section ZRI
variable {G : Nat × Nat × Nat} {F : Nat → Prop} {h0 h h' : ZH} {A : ZA} {E : Nat → Nat} {σ : ZS} {cb b : Nat}
def sHold (σ : ZS) (g : Nat) (x : Int32) : ZS := sau (slu (sau (sau (sau σ 606 g 1) 607 g x) 609 g (-1)) 0 g []) 613 g (-1)
theorem rc_ord (R : rcAll G F h0 A E h σ cb b) {g : Nat} (hg : g < sn σ 1) : zL h (A 5 (4 + 3 * g)) (E (4 + 3 * g)) ((sl σ 0 g).map (A 0)) := by
  have L := R.2.2.2.2.2.2.1 (4 + 3 * g) (Or.inr (Or.inr ⟨by omega, by omega, by omega⟩))
  have e : rcCon A σ (4 + 3 * g) = (sl σ 0 g).map (A 0) := by
    unfold rcCon
    rw [if_neg (by omega), if_neg (by omega), if_neg (by omega), if_neg (by omega), if_pos (by omega), show (4 + 3 * g - 4) / 3 = g by omega]
  rw [e] at L; exact L
theorem rc_lyi (R : rcAll G F h0 A E h σ cb b) {g : Nat} (hg : g < sn σ 1) : zL h (A 5 (5 + 3 * g)) (E (5 + 3 * g)) ((sl σ 1 g).map (A 0)) := by
  have L := R.2.2.2.2.2.2.1 (5 + 3 * g) (Or.inr (Or.inr ⟨by omega, by omega, by omega⟩))
  have e : rcCon A σ (5 + 3 * g) = (sl σ 1 g).map (A 0) := by
    unfold rcCon
    rw [if_neg (by omega), if_neg (by omega), if_neg (by omega), if_neg (by omega), if_neg (by omega), show (5 + 3 * g - 5) / 3 = g by omega]
  rw [e] at L; exact L
theorem sp_hold (R : rcAll G F h0 A E h σ cb b) {Q : ZH → Prop} {g : Nat} {x : Int32} {q : Option Nat} (hg : g < sn σ 1) (hq : q = rfx (A 0) x) (hQ : ∀ E' h', rcAll G F h0 A E' h' (sHold σ g x) cb b → Q h') : fv_hold_1 G (A 1 g) Q h q := by
  have hm := rc_gt R hg
  subst hq
  refine ⟨hm, fun _ => ⟨hm, fun h1 e1 => ?_⟩⟩
  have R1 : rcAll G F h0 A E h1 _ cb b := e1 ▸ rc_Gi R hg (f := 606) (x := 1) (by simp [rcGi])
  refine ⟨rc_gt R1 hg, fun h2 e2 => ?_⟩
  have R2 : rcAll G F h0 A E h2 _ cb b := e2 ▸ rc_Gr R1 hg (f := 607) (x := x) (by simp [rcGr])
  refine ⟨rc_gt R2 hg, fun h3 e3 => ?_⟩
  have R3 : rcAll G F h0 A E h3 _ cb b := e3 ▸ rc_Gr R2 hg (f := 609) (x := -1) (by simp [rcGr])
  have hL := rc_ord R3 hg
  refine ⟨rc_gt R3 hg, _, (R3.2.2.2.2.1 g hg).2.2.2.1, hL.1, zl_clear hL fun h5 hL5 hA5 => ?_⟩
  have R5 := rc_L R3 (k := 0) (l := []) (by omega) hg (by omega) rfl hL5 hA5
  refine ⟨rc_gt R5 hg, fun h6 e6 => ?_⟩
  have R6 : rcAll G F h0 A _ h6 _ cb b := e6 ▸ rc_T0 R5 hg rfl
  exact hQ _ h6 R6
/-- the act 'right' -/
def sRight (σ : ZS) (x p n : Int32) : Int32 × ZS :=
  if (∃ g, g < sn σ 1 ∧ x = nI g) ∧ (∃ j, j < sn σ 2 ∧ p = nI j) ∧ ¬ n < 1 ∧ ¬ 20 < n then
    if sa σ 606 x.toNatClampNeg = 0 ∧ ¬ sa σ 10 x.toNatClampNeg = 5 then
      if sa σ 702 p.toNatClampNeg = 0 then (sYearly σ x.toNatClampNeg * n, sau (sau (sHold σ x.toNatClampNeg p) 608 x.toNatClampNeg (sa σ 203 0 + 365 * n)) 204 0 (sa σ 204 0 + sYearly σ x.toNatClampNeg * n))
      else (-3, σ)
    else (-2, σ)
  else (-1, σ)
theorem sp_right (R : rcAll G F h0 A E h σ cb b) {Q : Int32 → ZH → Prop} {XE : String → Nat → ZH → Prop} {bc bs : Nat} {x p n : Int32} (hc : 1 ≤ bc) (hs : 7 ≤ bs)
    (hX : ∀ v, sRight σ x p n = (v, σ) → (v = -1 ∨ v = -2 ∨ v = -3) → ∀ a h', zt h' a = 6 → zi h' 400 a = v → zFr h h' → XE "ChurchyardBook$Refused" a h')
    (hN : ∀ g, g < sn σ 1 → ¬ n < 1 → ¬ 20 < n → ¬ sYearly σ g * n < 0) (hQ : ∀ v σ' E' h', sRight σ x p n = (v, σ') → ¬ v < 0 → rcAll G F h0 A E' h' σ' cb b → Q v h') : fc_X5_right G b Q XE h bc bs x p n := by
  have hb4 : zt h b = 4 := R.1.1
  have h31 := rc_sz1 R
  have h32 := rc_sz2 R
  have bad : ∀ q q2, sRight σ x p n = (-1, σ) → fc_X5_right_39 G b Q XE h bc bs n q q2 := fun q q2 hn => ⟨bc, bs, Nat.le_refl _, Nat.le_refl _, sp_no hc hs (hX _ hn (Or.inl rfl))⟩
  refine ⟨hb4, sp_grave R (fun g hg hx => ⟨hb4, sp_person R (fun j hj hp => ⟨fun w => (nomatch w), fun b3 e3 => ⟨fun w => (nomatch w), fun b4 e4 => ⟨fun w => bad _ _ ?_, fun w => ⟨fun w2 => bad _ _ ?_, fun w2 => ?_⟩⟩⟩⟩) (fun hno => ⟨fun w => (nomatch w), fun b3 e3 => ⟨fun w => bad _ _ ?_, fun b4 e4 => (nomatch e4)⟩⟩)⟩) (fun hno => ⟨hb4, sp_person R (fun j hj hp => ⟨fun w => bad _ _ ?_, fun b3 e3 => (nomatch e3)⟩) (fun hno2 => ⟨fun w => bad _ _ ?_, fun b3 e3 => (nomatch e3)⟩)⟩)⟩
  · unfold sRight; rw [if_neg (fun q => q.2.2.1 w)]
  · unfold sRight; rw [if_neg (fun q => q.2.2.2 w2)]
  · have hxc : x.toNatClampNeg = g := by rw [hx]; exact nI_clamp (by omega)
    have hpc : p.toNatClampNeg = j := by rw [hp]; exact nI_clamp (by omega)
    have base : sRight σ x p n = if sa σ 606 g = 0 ∧ ¬ sa σ 10 g = 5 then
        if sa σ 702 j = 0 then (sYearly σ g * n, sau (sau (sHold σ g p) 608 g (sa σ 203 0 + 365 * n)) 204 0 (sa σ 204 0 + sYearly σ g * n))
        else (-3, σ)
      else (-2, σ) := by
      unfold sRight; rw [if_pos ⟨⟨g, hg, hx⟩, ⟨j, hj, hp⟩, w, w2⟩, hxc, hpc]
    have hm := rc_gt R hg
    obtain ⟨g1, g2, -⟩ := R.2.2.2.2.1 g hg
    obtain ⟨p1, p2, -⟩ := R.2.2.2.1 j hj
    have m14 : zt h (A 0 j) ∈ [14] := by rw [p1]; decide
    have hst : zi h 606 (A 1 g) = sa σ 606 g := g2 606 (by simp [rcGi])
    have hde : zi h 702 (A 0 j) = sa σ 702 j := p2 702 (by simp [rcPi])
    have bad2 : ¬ (sa σ 606 g = 0 ∧ ¬ sa σ 10 g = 5) → fc_X5_right_64 G b Q XE h (bc - 0) (bs - 0) n (some (A 1 g)) (some (A 0 j)) := fun hn => ⟨bc, bs, Nat.le_refl _, Nat.le_refl _, sp_no hc hs (hX _ (by rw [base, if_neg hn]) (Or.inr (Or.inl rfl)))⟩
    refine ⟨0, 0, Nat.zero_le _, Nat.zero_le _, sp_ok ⟨_, rfl, hm, fun q => bad2 (fun z => q (hst.trans z.1)), fun q => sp_needs R hg ?_⟩⟩
    rw [hst] at q
    by_cases h5 : sa σ 10 g = 5
    · rw [if_pos h5]
      exact ⟨fun _ => bad2 (fun z => z.2 h5), fun w => absurd rfl w⟩
    · rw [if_neg h5]
      rw [if_pos ⟨q, h5⟩] at base
      refine ⟨fun w => absurd w (by decide), fun _ => ⟨0, 0, Nat.zero_le _, Nat.zero_le _, sp_ok ⟨_, rfl, m14, fun z => ?_, fun z => ?_⟩⟩⟩
      · rw [hde] at z
        rw [if_neg z] at base
        exact ⟨bc, bs, Nat.le_refl _, Nat.le_refl _, sp_no hc hs (hX _ base (Or.inr (Or.inr rfl)))⟩
      · rw [hde] at z
        rw [if_pos z] at base
        have e0 : some (A 0 j) = rfx (A 0) p := by rw [hp]; exact (rfx_some _ (by omega)).symm
        refine ⟨0, 0, Nat.zero_le _, Nat.zero_le _, sp_ok ⟨_, rfl, sp_hold R hg e0 fun E1 h6 R1 => ⟨by rw [R1.1.1]; decide, rc_gt R1 hg, fun h7 e7 => ?_⟩⟩⟩
        have e203 : zi h6 203 b = sa σ 203 0 := R1.1.2.1
        rw [e203] at e7
        subst e7
        have R2 := rc_Gi R1 hg (f := 608) (x := sa σ 203 0 + 365 * n) (by simp [rcGi])
        refine sp_yearly R2 hg ⟨R1.1.1, sp_paid R2 fun h9 R3 => hQ _ _ E1 h9 base (hN g hg w w2) ?_⟩
        exact R3
  · unfold sRight; rw [if_neg (fun q => hno q.2.1)]
  · unfold sRight; rw [if_neg (fun q => hno q.1)]
  · unfold sRight; rw [if_neg (fun q => hno q.1)]
end ZRI
