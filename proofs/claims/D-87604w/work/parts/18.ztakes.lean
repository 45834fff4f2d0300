/-! METHODS of the component on the picture of a book: an offer taken or refused. -/
set_option maxRecDepth 100000
section ZTK
variable {G : Nat × Nat × Nat} {F : Nat → Prop} {h0 h h' : ZH} {A : ZA} {E : Nat → Nat} {σ : ZS} {cb b : Nat}
/-- the refusal of a grave that isn't offered to anyone: 0 none -/
def sOffered (σ : ZS) (x : Int32) : Int32 := if ∃ g, g < sn σ 1 ∧ x = nI g then (if sa σ 606 x.toNatClampNeg = 2 ∧ ¬ sa σ 609 x.toNatClampNeg = -1 then 0 else -2) else -1
theorem sp_offered (R : rcAll G F h0 A E h σ cb b) (W : sWF σ) {Q : Option Nat → Prop} {XE : String → Nat → ZH → Prop} {bc bs : Nat} {x : Int32} (hc : 1 ≤ bc) (hs : 7 ≤ bs)
    (hX : ∀ v, sOffered σ x = v → (v = -1 ∨ v = -2) → ∀ a h', zt h' a = 6 → zi h' 400 a = v → zFr h h' → XE "ChurchyardBook$Refused" a h')
    (hQ : ∀ g, g < sn σ 1 → x = nI g → sOffered σ x = 0 → sa σ 606 g = 2 → ¬ sa σ 609 g = -1 → Q (some (A 1 g))) : fc_X5_offered G b Q XE h bc bs x := by
  have hb4 : zt h b = 4 := R.1.1
  have h31 := rc_sz1 R
  have h32 := rc_sz2 R
  refine ⟨hb4, sp_grave R (fun g hg hx => ⟨fun w => (nomatch w), fun b2 e2 => ?_⟩) (fun hno => ⟨fun w => ⟨bc, bs, Nat.le_refl _, Nat.le_refl _, sp_no hc hs (hX _ (by unfold sOffered; rw [if_neg hno]) (Or.inl rfl))⟩, fun b2 e2 => (nomatch e2)⟩)⟩
  have hxc : x.toNatClampNeg = g := by rw [hx]; exact nI_clamp (by omega)
  have base : sOffered σ x = if sa σ 606 g = 2 ∧ ¬ sa σ 609 g = -1 then 0 else -2 := by
    unfold sOffered; rw [if_pos ⟨g, hg, hx⟩, hxc]
  have hm := rc_gt R hg
  obtain ⟨g1, g2, g3, -⟩ := R.2.2.2.2.1 g hg
  have hst : zi h 606 (A 1 g) = sa σ 606 g := g2 606 (by simp [rcGi])
  have hof : zr h 609 (A 1 g) = none ↔ sa σ 609 g = -1 := by rw [g3 609 (by simp [rcGr])]; exact rfx_no (by omega) (W.2 g hg 609 (by simp [rcGr]))
  have bad : ¬ (sa σ 606 g = 2 ∧ ¬ sa σ 609 g = -1) → fc_X5_offered_38 G b Q XE h (bc - 0) (bs - 0) (some (A 1 g)) := fun hn => ⟨bc, bs, Nat.le_refl _, Nat.le_refl _, sp_no hc hs (hX _ (by rw [base, if_neg hn]) (Or.inr rfl))⟩
  refine ⟨0, 0, Nat.zero_le _, Nat.zero_le _, sp_ok ⟨_, rfl, hm, fun w => bad (fun q => w (hst.trans q.1)), fun w => ⟨hm, fun w2 => bad (fun q => q.2 (hof.mp w2)), fun b6 w2 => ?_⟩⟩⟩
  have h2 : sa σ 606 g = 2 := hst.symm.trans w
  have h9 : ¬ sa σ 609 g = -1 := fun q => by rw [hof.mpr q] at w2; cases w2
  exact ⟨0, 0, Nat.zero_le _, Nat.zero_le _, sp_ok (hQ g hg hx (by rw [base, if_pos ⟨h2, h9⟩]) h2 h9)⟩
def sTakes (σ : ZS) (x : Int32) : Int32 × ZS := if sOffered σ x = 0 then (0, sHold σ x.toNatClampNeg (sa σ 609 x.toNatClampNeg)) else (sOffered σ x, σ)
theorem sp_takes (R : rcAll G F h0 A E h σ cb b) (W : sWF σ) {Q : Int32 → ZH → Prop} {XE : String → Nat → ZH → Prop} {bc bs : Nat} {x : Int32} (hc : 1 ≤ bc) (hs : 7 ≤ bs)
    (hX : ∀ v, sTakes σ x = (v, σ) → (v = -1 ∨ v = -2) → ∀ a h', zt h' a = 6 → zi h' 400 a = v → zFr h h' → XE "ChurchyardBook$Refused" a h')
    (hQ : ∀ σ' E' h', sTakes σ x = (0, σ') → rcAll G F h0 A E' h' σ' cb b → Q 0 h') : fc_X5_takes G b Q XE h bc bs x := by
  have h31 := rc_sz1 R
  refine ⟨R.1.1, bc, bs, Nat.le_refl _, Nat.le_refl _, sp_offered R W hc hs (fun v hv hv2 => hX v (by unfold sTakes; rw [if_neg (by rw [hv]; rcases hv2 with q | q <;> rw [q] <;> decide), hv]) hv2) (fun g hg hx hz h2 h9 => ⟨_, rfl, rc_gt R hg, ?_⟩)⟩
  have hxc : x.toNatClampNeg = g := by rw [hx]; exact nI_clamp (by omega)
  have e := (R.2.2.2.2.1 g hg).2.2.1 609 (by simp [rcGr])
  exact sp_hold R hg e fun E' h' R' => hQ _ E' h' (by unfold sTakes; rw [if_pos hz, hxc]) R'
def sRefuses (σ : ZS) (x : Int32) : Int32 × ZS := if sOffered σ x = 0 then (0, sPass σ x.toNatClampNeg (sa σ 203 0) (sa σ 612 x.toNatClampNeg + 1).toNatClampNeg) else (sOffered σ x, σ)
theorem sp_refuses (R : rcAll G F h0 A E h σ cb b) (W : sWF σ) {Q : Int32 → ZH → Prop} {XE : String → Nat → ZH → Prop} {bc bs : Nat} {x : Int32} (hc : 1 ≤ bc) (hs : 7 ≤ bs)
    (hat : ∀ g, g < sn σ 1 → sa σ 606 g = 2 → (∃ k, k ≤ 64 ∧ sa σ 612 g + 1 = nI k) ∧ ∀ p ∈ sl σ 0 g, p < sn σ 2)
    (hX : ∀ v, sRefuses σ x = (v, σ) → (v = -1 ∨ v = -2) → ∀ a h', zt h' a = 6 → zi h' 400 a = v → zFr h h' → XE "ChurchyardBook$Refused" a h')
    (hQ : ∀ σ' h', sRefuses σ x = (0, σ') → rcAll G F h0 A E h' σ' cb b → Q 0 h') : fc_X5_refuses G b Q XE h bc bs x := by
  have h31 := rc_sz1 R
  refine ⟨R.1.1, bc, bs, Nat.le_refl _, Nat.le_refl _, sp_offered R W hc hs (fun v hv hv2 => hX v (by unfold sRefuses; rw [if_neg (by rw [hv]; rcases hv2 with q | q <;> rw [q] <;> decide), hv]) hv2) (fun g hg hx hz h2 h9 => ⟨by rw [R.1.1]; decide, _, rfl, ?_⟩)⟩
  have hxc : x.toNatClampNeg = g := by rw [hx]; exact nI_clamp (by omega)
  obtain ⟨⟨k, hk, ek⟩, ho⟩ := hat g hg h2
  rw [R.1.2.1]
  refine sp_pass R hg ek hk ho fun h' R' => hQ _ h' ?_ R'
  unfold sRefuses
  rw [if_pos hz, hxc, ek, nI_clamp (by omega)]
end ZTK
