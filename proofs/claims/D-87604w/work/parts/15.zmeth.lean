/-! METHODS of the component on the picture of a book: small ones. -/
set_option maxRecDepth 100000
/-- all that there was is as it was -/
def zFr (h h' : ZH) : Prop := ∀ b, zt h b ≠ 0 → zt h' b = zt h b ∧ zl h' b = zl h b ∧ (∀ f, zi h' f b = zi h f b ∧ zr h' f b = zr h f b) ∧ ∀ k i, zj h' k b i = zj h k b i ∧ zs h' k b i = zs h k b i
theorem zFr.rf {h : ZH} : zFr h h := fun _ _ => ⟨rfl, rfl, fun _ => ⟨rfl, rfl⟩, fun _ _ => ⟨rfl, rfl⟩⟩
theorem zFr.tr {h h1 h2 : ZH} (a : zFr h h1) (b : zFr h1 h2) : zFr h h2 := by
  intro c hc
  obtain ⟨a1, a2, a3, a4⟩ := a c hc
  obtain ⟨b1, b2, b3, b4⟩ := b c (by rw [a1]; exact hc)
  exact ⟨b1.trans a1, b2.trans a2, fun f => ⟨(b3 f).1.trans (a3 f).1, (b3 f).2.trans (a3 f).2⟩, fun k i => ⟨(b4 k i).1.trans (a4 k i).1, (b4 k i).2.trans (a4 k i).2⟩⟩
theorem zFr.K {h h' : ZH} (a : zFr h h') : zK h h' := fun b hb => ⟨(a b hb).1, (a b hb).2.1, fun f _ => (a b hb).2.2.1 f, fun k i => ((a b hb).2.2.2 k i).1, fun k i _ => ((a b hb).2.2.2 k i).2⟩
theorem zFr.new {h : ZH} {a t : Nat} (hz : zt h a = 0) : zFr h (znew h a t) := by
  intro b hb
  have hne : b ≠ a := fun q => hb (q ▸ hz)
  exact ⟨by rw [zt_new, if_neg hne], rfl, fun f => ⟨by rw [zi_new, if_neg hne], by rw [zr_new, if_neg hne]⟩, fun k i => ⟨rfl, rfl⟩⟩
theorem zFr.pi {h h' : ZH} {a f : Nat} {x : Int32} (hz : zt h a = 0) (r : zFr h h') : zFr h (zpi h' f a x) := by
  intro b hb
  have hne : b ≠ a := fun q => hb (q ▸ hz)
  obtain ⟨r1, r2, r3, r4⟩ := r b hb
  exact ⟨r1, r2, fun g => ⟨by rw [zi_pi, if_neg (fun q => hne q.2)]; exact (r3 g).1, (r3 g).2⟩, r4⟩
theorem zFr.pr {h h' : ZH} {a f : Nat} {x : Option Nat} (hz : zt h a = 0) (r : zFr h h') : zFr h (zpr h' f a x) := by
  intro b hb
  have hne : b ≠ a := fun q => hb (q ▸ hz)
  obtain ⟨r1, r2, r3, r4⟩ := r b hb
  exact ⟨r1, r2, fun g => ⟨(r3 g).1, by rw [zr_pr, if_neg (fun q => hne q.2)]; exact (r3 g).2⟩, r4⟩
theorem sp_need {G : Nat × Nat × Nat} {Q : Prop} {XE : String → Nat → ZH → Prop} {h : ZH} {bc bs : Nat} {v0 v1 : Int32} (h1 : ¬ v0 = 0 → Q) (h2 : v0 = 0 → 1 ≤ bc ∧ 7 ≤ bs ∧ ∀ a h', zt h' a = 6 → zi h' 400 a = v1 → zFr h h' → XE "ChurchyardBook$Refused" a h') : fc_X1_need G Q XE h bc bs v0 v1 := by
  refine ⟨h1, fun h0 => ?_⟩
  obtain ⟨c1, c2, hX⟩ := h2 h0
  refine ⟨c1, c2, fun a hh hz e => ?_⟩
  subst e
  have t6 : zt (znew h a 6) a = 6 := by rw [zt_new, if_pos rfl]
  refine ⟨t6, by rw [zr_new, if_pos rfl], by rw [t6]; decide, fun h3 e3 => ?_⟩
  subst e3
  refine ⟨t6, hX a _ t6 (by rw [zi_pi, if_pos ⟨rfl, rfl⟩]) (zFr.pi hz (zFr.new hz))⟩
section ZME
variable {G : Nat × Nat × Nat} {F : Nat → Prop} {h0 h h' : ZH} {A : ZA} {E : Nat → Nat} {σ : ZS} {cb b : Nat}
theorem rc_con2 : rcCon A σ 2 = (List.range (sn σ 2)).map (A 0) := rfl
theorem rc_con1 : rcCon A σ 1 = (List.range (sn σ 1)).map (A 1) := rfl
theorem rc_con0 : rcCon A σ 0 = (List.range (sn σ 0)).map (A 2) := rfl
theorem sp_person (R : rcAll G F h0 A E h σ cb b) {Q : Option Nat → Prop} {v : Int32} (hQ1 : ∀ j, j < sn σ 2 → v = nI j → Q (some (A 0 j))) (hQ0 : (¬ ∃ j, j < sn σ 2 ∧ v = nI j) → Q none) : fc_X5_person G b Q h v := by
  obtain ⟨B, nb, Hm, P, Gv, Fd, L, St, Ap, Pr⟩ := R
  obtain ⟨b1, b2, b3, b4, b5, b6, b7⟩ := B
  have L2 := L 2 (Or.inl (by omega))
  have hlen : (rcCon A σ 2).length = sn σ 2 := by rw [rc_con2]; simp
  have h64 : sn σ 2 ≤ 64 := by have := L2.2.2.2.2.1; have := L2.2.2.2.2.2.1; omega
  refine ⟨fun w => ?_, fun w => ⟨by rw [b1]; decide, A 5 2, b6, L2.1, zl_size L2 ⟨fun w2 => ⟨by rw [b1]; decide, L2.1, ?_⟩, fun w2 => ?_⟩⟩⟩
  · exact hQ0 fun ⟨j, hj, hv⟩ => nI_pos (by omega : j < 2 ^ 31) (hv ▸ w)
  · obtain ⟨j, hj, rfl⟩ := nI_of w
    have hj2 : j < sn σ 2 := by rw [hlen] at w2; exact (nI_ltI hj (by omega)).mp w2
    refine zl_get L2 (by omega) ?_
    have e : (rcCon A σ 2)[j]? = some (A 0 j) := by rw [rc_con2]; simp [hj2]
    rw [e]
    refine ⟨fun b9 hb9 => ?_, hQ1 j hj2 rfl⟩
    cases hb9
    rw [(P j hj2).1]; decide
  · refine hQ0 fun ⟨j, hj, hv⟩ => w2 ?_
    rw [hv, hlen]
    exact nI_lt hj (by omega)
/-- the act 'paper' -/
def sPaper (σ : ZS) (x y : Int32) : Int32 × ZS := if (∃ i, i < sn σ 2 ∧ x = nI i) ∧ (∃ j, j < sn σ 2 ∧ y = nI j) ∧ ¬ x = y ∧ sa σ 702 x.toNatClampNeg = 0 then (0, sau σ 707 x.toNatClampNeg y) else (-1, σ)
theorem rc_sz2 (R : rcAll G F h0 A E h σ cb b) : sn σ 2 ≤ 64 := by
  have L2 := R.2.2.2.2.2.2.1 2 (Or.inl (by omega))
  have hlen : (rcCon A σ 2).length = sn σ 2 := by rw [rc_con2]; simp
  have := L2.2.2.2.2.1; have := L2.2.2.2.2.2.1; omega
theorem sp_paper (R : rcAll G F h0 A E h σ cb b) {Q : Int32 → ZH → Prop} {XE : String → Nat → ZH → Prop} {bc bs : Nat} {x y : Int32} (hc : 1 ≤ bc) (hs : 7 ≤ bs)
    (hX : (sPaper σ x y).1 = -1 → ∀ a h', zt h' a = 6 → zi h' 400 a = -1 → zFr h h' → XE "ChurchyardBook$Refused" a h')
    (hQ : (sPaper σ x y).1 = 0 → ∀ h', rcAll G F h0 A E h' (sPaper σ x y).2 cb b → Q 0 h') : fc_X5_paper G b Q XE h bc bs x y := by
  have hb4 : zt h b = 4 := R.1.1
  have hbad : ∀ q, (sPaper σ x y).1 = -1 → fc_X5_paper_34 G b Q XE h bc bs y q := fun q hn => ⟨bc, bs, Nat.le_refl _, Nat.le_refl _, sp_need (fun w => absurd rfl w) (fun _ => ⟨hc, hs, hX hn⟩)⟩
  refine ⟨hb4, sp_person R (fun i hi hxi => ⟨fun w => (nomatch w), fun b2 e2 => ⟨hb4, sp_person R (fun j hj hyj => ⟨fun w => (nomatch w), fun b4 e4 => ⟨fun w => ?_, fun w => ?_⟩⟩) (fun hno => ⟨fun _ => hbad _ ?_, fun b4 e4 => (nomatch e4)⟩)⟩⟩) (fun hno => ⟨fun _ => hbad _ ?_, fun b2 e2 => (nomatch e2)⟩)⟩
  · refine hbad _ ?_
    unfold sPaper; rw [if_neg (fun q => q.2.2.1 w)]
  · cases e2
    obtain ⟨p1, p2, p3, p4, p5⟩ := R.2.2.2.1 i hi
    have hdead : zi h 702 (A 0 i) = sa σ 702 i := p2 702 (by simp [rcPi])
    have hxc : x.toNatClampNeg = i := by rw [hxi]; exact nI_clamp (by have := rc_sz2 R; omega)
    refine ⟨by rw [p1]; decide, fun w2 => ?_, fun w2 => ?_⟩
    · refine hbad _ ?_
      unfold sPaper
      rw [if_neg (fun q => w2 ?_)]
      have := q.2.2.2
      rw [hxc] at this
      rw [hdead]; exact this
    · have hok : sPaper σ x y = (0, sau σ 707 i y) := by
        unfold sPaper
        rw [if_pos ⟨⟨i, hi, hxi⟩, ⟨j, hj, hyj⟩, w, by rw [hxc, ← hdead]; exact w2⟩, hxc]
      refine ⟨bc, bs, Nat.le_refl _, Nat.le_refl _, sp_need (fun _ => ⟨hb4, sp_person R (fun j2 hj2 hy2 => ⟨A 0 i, rfl, by rw [p1]; decide, fun h7 e7 => ?_⟩) (fun hno => absurd ⟨j, hj, hyj⟩ hno)⟩) (fun w9 => absurd w9 (by decide))⟩
      have e0 : some (A 0 j2) = rfx (A 0) y := by rw [hy2]; exact (rfx_some (A 0) (by have := rc_sz2 R; omega)).symm
      rw [e0] at e7
      subst e7
      refine hQ (by rw [hok]) _ ?_
      rw [hok]
      exact rc_Pr R hi (by simp [rcPr])
  · unfold sPaper; rw [if_neg (fun q => hno q.2.1)]
  · unfold sPaper; rw [if_neg (fun q => hno q.1)]
theorem sp_ok {Q : Prop} {XE : String → Nat → ZH → Prop} {bc bs : Nat} {v : Int32} (q : Q) : fc_X1_need G Q XE h bc bs 1 v := ⟨fun _ => q, fun w => absurd w (by decide)⟩
theorem sp_no {Q : Prop} {XE : String → Nat → ZH → Prop} {bc bs : Nat} {v : Int32} (hc : 1 ≤ bc) (hs : 7 ≤ bs) (hX : ∀ a h', zt h' a = 6 → zi h' 400 a = v → zFr h h' → XE "ChurchyardBook$Refused" a h') : fc_X1_need G Q XE h bc bs 0 v := sp_need (fun w => absurd rfl w) (fun _ => ⟨hc, hs, hX⟩)
/-- references are numbers of what there is -/
def sWF (σ : ZS) : Prop := (∀ p, p < sn σ 2 → (∀ f ∈ rcPr, sOk (sn σ 2) (sa σ f p)) ∧ sOk (sn σ 1) (sa σ 710 p)) ∧ ∀ g, g < sn σ 1 → ∀ f ∈ rcGr, sOk (sn σ 2) (sa σ f g)
theorem rfx_ok {n : Nat} {ad : Nat → Nat} {x : Int32} (hn : n < 2 ^ 31) (h : sOk n x) : (x = -1 ∧ rfx ad x = none) ∨ ∃ j, j < n ∧ x = nI j ∧ rfx ad x = some (ad j) := by
  rcases h with rfl | ⟨j, hj, rfl⟩
  · exact Or.inl ⟨rfl, rfx_none ad⟩
  · exact Or.inr ⟨j, hj, rfl, rfx_some ad (by omega)⟩
theorem rfx_is {n : Nat} {ad : Nat → Nat} {x : Int32} {i : Nat} (hn : n < 2 ^ 31) (h : sOk n x) (hi : i < n) (inj : ∀ i j, i < n → j < n → ad i = ad j → i = j) : rfx ad x = some (ad i) ↔ x = nI i := by
  rcases rfx_ok (ad := ad) hn h with ⟨e, e2⟩ | ⟨j, hj, e, e2⟩
  · rw [e2]
    refine ⟨fun w => (nomatch w), fun w => ?_⟩
    rw [e] at w
    exact absurd (w ▸ (by decide : (-1 : Int32) < 0)) (nI_pos (by omega))
  · rw [e2]
    refine ⟨fun w => by rw [e, inj j i hj hi (Option.some.inj w)], fun w => ?_⟩
    rw [e] at w
    rw [(nI_eq (by omega) (by omega)).mp w]
theorem rfx_no {n : Nat} {ad : Nat → Nat} {x : Int32} (hn : n < 2 ^ 31) (h : sOk n x) : rfx ad x = none ↔ x = -1 := by
  rcases rfx_ok (ad := ad) hn h with ⟨e, e2⟩ | ⟨j, hj, e, e2⟩
  · exact ⟨fun _ => e, fun _ => e2⟩
  · refine ⟨fun w => (by rw [e2] at w; cases w), fun w => ?_⟩
    rw [e] at w
    exact absurd (w ▸ (by decide : (-1 : Int32) < 0)) (nI_pos (by omega))
/-- i is a parent of j -/
abbrev sParent (σ : ZS) (i j : Nat) : Prop := sa σ 705 j = nI i ∨ sa σ 706 j = nI i
theorem sp_parent (R : rcAll G F h0 A E h σ cb b) (W : sWF σ) {Q : Int32 → Prop} {i j : Nat} (hi : i < sn σ 2) (hj : j < sn σ 2) (hQ1 : sParent σ i j → Q 1) (hQ0 : ¬ sParent σ i j → Q 0) : fc_X16_isParentOf G (A 0 i) Q h (some (A 0 j)) := by
  obtain ⟨p1, p2, p3, p4, p5⟩ := R.2.2.2.1 j hj
  have h31 : sn σ 2 < 2 ^ 31 := by have := rc_sz2 R; omega
  have inj := fun i j hi hj => rc_inj0 R (p := i) (q := j) hi hj
  have e5 : zr h 705 (A 0 j) = some (A 0 i) ↔ sa σ 705 j = nI i := by rw [p3 705 (by simp [rcPr])]; exact rfx_is h31 ((W.1 j hj).1 705 (by simp [rcPr])) hi inj
  have e6 : zr h 706 (A 0 j) = some (A 0 i) ↔ sa σ 706 j = nI i := by rw [p3 706 (by simp [rcPr])]; exact rfx_is h31 ((W.1 j hj).1 706 (by simp [rcPr])) hi inj
  have h14 : zt h (A 0 j) ∈ [14] := by rw [p1]; decide
  refine ⟨_, rfl, h14, fun w => hQ1 (Or.inl (e5.mp w)), fun w => ⟨h14, fun w2 => hQ0 fun q => q.elim (fun q => w (e5.mpr q)) (fun q => w2 (e6.mpr q)), fun w2 => hQ1 (Or.inr (e6.mp w2))⟩⟩
/-- the act 'kin' -/
def sKin (σ : ZS) (x r y : Int32) : Int32 × ZS :=
  if (∃ i, i < sn σ 2 ∧ x = nI i) ∧ (∃ j, j < sn σ 2 ∧ y = nI j) ∧ ¬ x = y ∧ (r = 0 ∨ r = 1) then
    if r = 0 then
      if sa σ 704 x.toNatClampNeg = -1 ∧ sa σ 704 y.toNatClampNeg = -1 then (0, sau (sau σ 704 x.toNatClampNeg y) 704 y.toNatClampNeg x) else (-1, σ)
    else if ¬ sParent σ x.toNatClampNeg y.toNatClampNeg ∧ sa σ 701 x.toNatClampNeg < sa σ 701 y.toNatClampNeg ∧ (sa σ 705 y.toNatClampNeg = -1 ∨ sa σ 706 y.toNatClampNeg = -1) then
      if sa σ 705 y.toNatClampNeg = -1 then (0, sau σ 705 y.toNatClampNeg x) else (0, sau σ 706 y.toNatClampNeg x)
    else (-1, σ)
  else (-1, σ)
theorem sp_kin (R : rcAll G F h0 A E h σ cb b) (W : sWF σ) {Q : Int32 → ZH → Prop} {XE : String → Nat → ZH → Prop} {bc bs : Nat} {x r y : Int32} (hc : 1 ≤ bc) (hs : 7 ≤ bs)
    (hX : (sKin σ x r y).1 = -1 → ∀ a h', zt h' a = 6 → zi h' 400 a = -1 → zFr h h' → XE "ChurchyardBook$Refused" a h')
    (hQ : (sKin σ x r y).1 = 0 → ∀ h', rcAll G F h0 A E h' (sKin σ x r y).2 cb b → Q 0 h') : fc_X5_kin G b Q XE h bc bs x r y := by
  have hb4 : zt h b = 4 := R.1.1
  have h31 : sn σ 2 < 2 ^ 31 := by have := rc_sz2 R; omega
  have inj := fun i j hi hj => rc_inj0 R (p := i) (q := j) hi hj
  have bad : ∀ q4 q5, (sKin σ x r y).1 = -1 → fc_X5_kin_44 G b Q XE h bc bs r q4 q5 := fun q4 q5 hn => ⟨bc, bs, Nat.le_refl _, Nat.le_refl _, sp_no hc hs (hX hn)⟩
  refine ⟨hb4, sp_person R (fun i hi hx => ⟨hb4, sp_person R (fun j hj hy => ⟨fun w => (nomatch w), fun b3 e3 => ⟨fun w => (nomatch w), fun b4 e4 => ⟨fun w => ?_, fun w => ?_⟩⟩⟩) (fun hno => ⟨fun w => (nomatch w), fun b3 e3 => ⟨fun w => bad _ _ ?_, fun b4 e4 => (nomatch e4)⟩⟩)⟩) (fun hno => ⟨hb4, sp_person R (fun j hj hy => ⟨fun w => bad _ _ ?_, fun b3 e3 => (nomatch e3)⟩) (fun hno2 => ⟨fun w => bad _ _ ?_, fun b3 e3 => (nomatch e3)⟩)⟩)⟩
  · refine bad _ _ ?_
    have hij := inj i j hi hj (Option.some.inj w)
    unfold sKin; rw [if_neg (fun q => q.2.2.1 (by rw [hx, hy, hij]))]
  · cases e3; cases e4
    have hij : ¬ i = j := fun q => w (by rw [q])
    have hxy : ¬ x = y := fun q => hij (by rw [hx, hy] at q; exact (nI_eq (by omega) (by omega)).mp q)
    have hxc : x.toNatClampNeg = i := by rw [hx]; exact nI_clamp (by omega)
    have hyc : y.toNatClampNeg = j := by rw [hy]; exact nI_clamp (by omega)
    have hn0 : ∀ q, ¬ (r = 0 ∨ r = 1) → fc_X5_kin_44 G b Q XE h bc bs r (some (A 0 i)) q := fun q hr => bad _ _ (by unfold sKin; rw [if_neg (fun w => hr w.2.2.2)])
    obtain ⟨p1, p2, p3, p4, p5⟩ := R.2.2.2.1 i hi
    obtain ⟨q1, q2, q3, q4, q5⟩ := R.2.2.2.1 j hj
    have m14i : zt h (A 0 i) ∈ [14] := by rw [p1]; decide
    have m14j : zt h (A 0 j) ∈ [14] := by rw [q1]; decide
    have rX : some (A 0 i) = rfx (A 0) x := by rw [hx]; exact (rfx_some _ (by omega)).symm
    have rY : some (A 0 j) = rfx (A 0) y := by rw [hy]; exact (rfx_some _ (by omega)).symm
    have good : r = 0 ∨ r = 1 → fc_X5_kin_40 G b Q XE h bc bs r (some (A 0 i)) (some (A 0 j)) := by
      intro hr
      have base : sKin σ x r y = if r = 0 then
          if sa σ 704 i = -1 ∧ sa σ 704 j = -1 then (0, sau (sau σ 704 i y) 704 j x) else (-1, σ)
        else if ¬ sParent σ i j ∧ sa σ 701 i < sa σ 701 j ∧ (sa σ 705 j = -1 ∨ sa σ 706 j = -1) then
          if sa σ 705 j = -1 then (0, sau σ 705 j x) else (0, sau σ 706 j x)
        else (-1, σ) := by
        unfold sKin
        rw [if_pos ⟨⟨i, hi, hx⟩, ⟨j, hj, hy⟩, hxy, hr⟩, hxc, hyc]
      refine ⟨0, 0, Nat.zero_le _, Nat.zero_le _, sp_ok ⟨fun hr1 => ⟨_, rfl, p1, ?_⟩, fun hr0 => ⟨_, rfl, m14i, fun w4 => ⟨_, rfl, m14j, fun w5 => ?_, fun b13 w5 => ?_⟩, fun b11 w4 => ?_⟩⟩⟩
      · rw [if_neg hr1] at base
        have bad2 : ¬ (¬ sParent σ i j ∧ sa σ 701 i < sa σ 701 j ∧ (sa σ 705 j = -1 ∨ sa σ 706 j = -1)) → fc_X5_kin_137 G b Q XE h (bc - 0) (bs - 0) (some (A 0 i)) (some (A 0 j)) := fun hn => ⟨bc, bs, Nat.le_refl _, Nat.le_refl _, sp_no hc hs (hX (by rw [base, if_neg hn]))⟩
        have b1 : zi h 701 (A 0 i) = sa σ 701 i := p2 701 (by simp [rcPi])
        have b2 : zi h 701 (A 0 j) = sa σ 701 j := q2 701 (by simp [rcPi])
        have n5 : zr h 705 (A 0 j) = none ↔ sa σ 705 j = -1 := by rw [q3 705 (by simp [rcPr])]; exact rfx_no h31 ((W.1 j hj).1 705 (by simp [rcPr]))
        have n6 : zr h 706 (A 0 j) = none ↔ sa σ 706 j = -1 := by rw [q3 706 (by simp [rcPr])]; exact rfx_no h31 ((W.1 j hj).1 706 (by simp [rcPr]))
        have go : (¬ sParent σ i j ∧ sa σ 701 i < sa σ 701 j ∧ (sa σ 705 j = -1 ∨ sa σ 706 j = -1)) → fc_X5_kin_133 G b Q XE h (bc - 0) (bs - 0) (some (A 0 i)) (some (A 0 j)) := by
          intro hg
          rw [if_pos hg] at base
          refine ⟨0, 0, Nat.zero_le _, Nat.zero_le _, sp_ok ⟨_, rfl, m14j, fun w5 => ⟨m14j, fun h8 e8 => ?_⟩, fun b6 w5 => ⟨m14j, fun h8 e8 => ?_⟩⟩⟩
          · rw [if_pos (n5.mp w5)] at base
            rw [rX] at e8; subst e8
            refine hQ (by rw [base]) _ ?_
            rw [base]; exact rc_Pr R hj (by simp [rcPr])
          · rw [if_neg (fun q => by rw [n5.mpr q] at w5; cases w5)] at base
            rw [rX] at e8; subst e8
            refine hQ (by rw [base]) _ ?_
            rw [base]; exact rc_Pr R hj (by simp [rcPr])
        refine sp_parent R W hi hj (fun hp => ⟨fun _ => bad2 (fun q => q.1 hp), fun w => absurd w (by decide)⟩) (fun hp => ⟨fun w => absurd rfl w, fun _ => ⟨m14i, _, rfl, m14j, fun wb => bad2 ?_, fun wb => ⟨m14j, fun w5 => go ⟨hp, ?_, Or.inl (n5.mp w5)⟩, fun b8 w5 => ⟨m14j, fun w6 => go ⟨hp, ?_, Or.inr (n6.mp w6)⟩, fun b9 w6 => bad2 ?_⟩⟩⟩⟩)
        · intro q
          rw [b1, b2] at wb
          exact absurd q.2.1 (Int32.not_lt.mpr wb)
        · rw [b1, b2] at wb; exact Int32.not_le.mp wb
        · rw [b1, b2] at wb; exact Int32.not_le.mp wb
        · intro q
          rcases q.2.2 with z | z
          · rw [n5.mpr z] at w5; cases w5
          · rw [n6.mpr z] at w6; cases w6
      · rw [if_pos hr0] at base
        have n4 : zr h 704 (A 0 i) = none ↔ sa σ 704 i = -1 := by rw [p3 704 (by simp [rcPr])]; exact rfx_no h31 ((W.1 i hi).1 704 (by simp [rcPr]))
        have n5 : zr h 704 (A 0 j) = none ↔ sa σ 704 j = -1 := by rw [q3 704 (by simp [rcPr])]; exact rfx_no h31 ((W.1 j hj).1 704 (by simp [rcPr]))
        rw [if_pos ⟨n4.mp w4, n5.mp w5⟩] at base
        refine ⟨0, 0, Nat.zero_le _, Nat.zero_le _, sp_ok ⟨_, rfl, m14i, fun h6 e6 => ⟨_, rfl, by rw [e6]; exact m14j, fun h8 e8 => ?_⟩⟩⟩
        rw [rY] at e6; rw [rX] at e8; subst e8; subst e6
        refine hQ (by rw [base]) _ ?_
        rw [base]; exact rc_Pr (rc_Pr R hi (by simp [rcPr])) hj (by simp [rcPr])
      · rw [if_pos hr0, if_neg (fun q => ?_)] at base
        · exact ⟨bc, bs, Nat.le_refl _, Nat.le_refl _, sp_no hc hs (hX (by rw [base]))⟩
        · have := q.2
          rw [q3 704 (by simp [rcPr]), this] at w5; cases w5
      · rw [if_pos hr0, if_neg (fun q => ?_)] at base
        · exact ⟨bc, bs, Nat.le_refl _, Nat.le_refl _, sp_no hc hs (hX (by rw [base]))⟩
        · have := q.1
          rw [p3 704 (by simp [rcPr]), this] at w4; cases w4
    refine ⟨fun hr => good (Or.inl hr), fun hr => ⟨fun hr1 => hn0 _ (fun q => q.elim hr hr1), fun hr1 => good (Or.inr hr1)⟩⟩
  · unfold sKin; rw [if_neg (fun q => hno q.2.1)]
  · unfold sKin; rw [if_neg (fun q => hno q.1)]
  · unfold sKin; rw [if_neg (fun q => hno q.1)]
theorem rc_sz1 (R : rcAll G F h0 A E h σ cb b) : sn σ 1 ≤ 64 := by
  have L2 := R.2.2.2.2.2.2.1 1 (Or.inl (by omega))
  have hlen : (rcCon A σ 1).length = sn σ 1 := by rw [rc_con1]; simp
  have := L2.2.2.2.2.1; have := L2.2.2.2.2.2.1; omega
theorem rc_sz0 (R : rcAll G F h0 A E h σ cb b) : sn σ 0 ≤ 64 := by
  have L2 := R.2.2.2.2.2.2.1 0 (Or.inl (by omega))
  have hlen : (rcCon A σ 0).length = sn σ 0 := by rw [rc_con0]; simp
  have := L2.2.2.2.2.1; have := L2.2.2.2.2.2.1; omega
theorem rc_tag {x : Int32} : rcKind x ∈ [8, 9, 10, 11, 12, 13] := by
  obtain ⟨-, h1, h2⟩ := rcKind_pos x
  simp only [List.mem_cons, List.not_mem_nil, or_false]; omega
theorem rc_gt (R : rcAll G F h0 A E h σ cb b) {g : Nat} (hg : g < sn σ 1) : zt h (A 1 g) ∈ [8, 9, 10, 11, 12, 13] := by rw [(R.2.2.2.2.1 g hg).1]; exact rc_tag
theorem sp_grave (R : rcAll G F h0 A E h σ cb b) {Q : Option Nat → Prop} {v : Int32} (hQ1 : ∀ j, j < sn σ 1 → v = nI j → Q (some (A 1 j))) (hQ0 : (¬ ∃ j, j < sn σ 1 ∧ v = nI j) → Q none) : fc_X5_grave G b Q h v := by
  have R0 := R
  obtain ⟨B, nb, Hm, P, Gv, Fd, L, St, Ap, Pr⟩ := R
  obtain ⟨b1, b2, b3, b4, b5, b6, b7⟩ := B
  have L2 := L 1 (Or.inl (by omega))
  have hlen : (rcCon A σ 1).length = sn σ 1 := by rw [rc_con1]; simp
  have h64 := rc_sz1 R0
  refine ⟨fun w => ?_, fun w => ⟨by rw [b1]; decide, A 5 1, b5, L2.1, zl_size L2 ⟨fun w2 => ⟨by rw [b1]; decide, L2.1, ?_⟩, fun w2 => ?_⟩⟩⟩
  · exact hQ0 fun ⟨j, hj, hv⟩ => nI_pos (by omega : j < 2 ^ 31) (hv ▸ w)
  · obtain ⟨j, hj, rfl⟩ := nI_of w
    have hj2 : j < sn σ 1 := by rw [hlen] at w2; exact (nI_ltI hj (by omega)).mp w2
    refine zl_get L2 (by omega) ?_
    have e : (rcCon A σ 1)[j]? = some (A 1 j) := by rw [rc_con1]; simp [hj2]
    rw [e]
    refine ⟨fun b9 hb9 => ?_, hQ1 j hj2 rfl⟩
    cases hb9
    exact rc_gt R0 hj2
  · refine hQ0 fun ⟨j, hj, hv⟩ => w2 ?_
    rw [hv, hlen]
    exact nI_lt hj (by omega)
theorem rcKind_10 {x : Int32} : rcKind x = 10 ↔ x = 3 := by
  unfold rcKind
  refine ⟨fun w => ?_, fun w => by rw [w]; rfl⟩
  repeat' split at w
  all_goals first | omega | assumption
theorem rcKind_12 {x : Int32} : rcKind x = 12 ↔ x = 5 := by
  unfold rcKind
  refine ⟨fun w => ?_, fun w => by rw [w]; rfl⟩
  repeat' split at w
  all_goals first | omega | assumption
/-- what a grave costs a year -/
def sYearly (σ : ZS) (g : Nat) : Int32 := if sa σ 10 g = 3 then 10 * sa σ 604 g + 5 * (sa σ 604 g - 1) else 10 * sa σ 604 g
theorem sp_yearly (R : rcAll G F h0 A E h σ cb b) {Q : Int32 → Prop} {g : Nat} (hg : g < sn σ 1) (hQ : Q (sYearly σ g)) : fv_yearly_2 G (A 1 g) Q h := by
  have hm := rc_gt R hg
  obtain ⟨g1, g2, -⟩ := R.2.2.2.2.1 g hg
  have hw : zi h 604 (A 1 g) = sa σ 604 g := g2 604 (by simp [rcGi])
  unfold sYearly at hQ
  refine ⟨hm, fun w => ⟨hm, ?_⟩, fun w => ⟨w, hm, w, ?_⟩⟩
  · have h3 : ¬ sa σ 10 g = 3 := fun q => by rw [g1, rcKind_10.mpr q] at w; simp at w
    rw [if_neg h3] at hQ; rw [hw]; exact hQ
  · have h3 : sa σ 10 g = 3 := rcKind_10.mp (by rw [← g1]; simpa using w)
    rw [if_pos h3] at hQ; rw [hw]; exact hQ
theorem sp_needs (R : rcAll G F h0 A E h σ cb b) {Q : Int32 → Prop} {g : Nat} (hg : g < sn σ 1) (hQ : Q (if sa σ 10 g = 5 then 0 else 1)) : fv_needsHolder_3 G (A 1 g) Q h := by
  have hm := rc_gt R hg
  obtain ⟨g1, -⟩ := R.2.2.2.2.1 g hg
  refine ⟨hm, fun w => ?_, fun w => ?_⟩
  · have h3 : ¬ sa σ 10 g = 5 := fun q => by rw [g1, rcKind_12.mpr q] at w; simp at w
    rw [if_neg h3] at hQ; exact hQ
  · have h3 : sa σ 10 g = 5 := rcKind_12.mp (by rw [← g1]; simpa using w)
    rw [if_pos h3] at hQ; exact hQ
theorem sp_paid (R : rcAll G F h0 A E h σ cb b) {Q : Int32 → ZH → Prop} {v : Int32} (hQ : ∀ h', rcAll G F h0 A E h' (sau σ 204 0 (sa σ 204 0 + v)) cb b → Q v h') : fc_X5_paid G b Q h v := by
  have hb4 : zt h b ∈ [4] := by rw [R.1.1]; decide
  refine ⟨hb4, hb4, fun h1 e1 => ?_⟩
  rw [R.1.2.2.1] at e1
  subst e1
  exact hQ _ (rc_Bi R (by simp))
/-- the act 'longer' -/
def sLonger (σ : ZS) (x n : Int32) : Int32 × ZS :=
  if (∃ g, g < sn σ 1 ∧ x = nI g) ∧ ¬ n < 1 ∧ ¬ 20 < n then
    if sa σ 606 x.toNatClampNeg = 1 then (sYearly σ x.toNatClampNeg * n, sau (sau σ 608 x.toNatClampNeg (sa σ 608 x.toNatClampNeg + 365 * n)) 204 0 (sa σ 204 0 + sYearly σ x.toNatClampNeg * n))
    else (-2, σ)
  else (-1, σ)
theorem sp_longer (R : rcAll G F h0 A E h σ cb b) {Q : Int32 → ZH → Prop} {XE : String → Nat → ZH → Prop} {bc bs : Nat} {x n : Int32} (hc : 1 ≤ bc) (hs : 7 ≤ bs)
    (hX : ∀ v, sLonger σ x n = (v, σ) → (v = -1 ∨ v = -2) → ∀ a h', zt h' a = 6 → zi h' 400 a = v → zFr h h' → XE "ChurchyardBook$Refused" a h')
    (hN : ∀ g, g < sn σ 1 → ¬ n < 1 → ¬ 20 < n → ¬ sYearly σ g * n < 0) (hQ : ∀ v σ' h', sLonger σ x n = (v, σ') → ¬ v < 0 → rcAll G F h0 A E h' σ' cb b → Q v h') : fc_X5_longer G b Q XE h bc bs x n := by
  have hb4 : zt h b = 4 := R.1.1
  have h31 := rc_sz1 R
  have bad : ∀ q, sLonger σ x n = (-1, σ) → fc_X5_longer_25 G b Q XE h bc bs n q := fun q hn => ⟨bc, bs, Nat.le_refl _, Nat.le_refl _, sp_no hc hs (hX _ hn (Or.inl rfl))⟩
  refine ⟨hb4, sp_grave R (fun g hg hx => ⟨fun w => (nomatch w), fun b2 e2 => ⟨fun w => bad _ ?_, fun w => ⟨fun w2 => bad _ ?_, fun w2 => ?_⟩⟩⟩) (fun hno => ⟨fun w => bad _ ?_, fun b2 e2 => (nomatch e2)⟩)⟩
  · unfold sLonger; rw [if_neg (fun q => q.2.1 w)]
  · unfold sLonger; rw [if_neg (fun q => q.2.2 w2)]
  · have hxc : x.toNatClampNeg = g := by rw [hx]; exact nI_clamp (by omega)
    have base : sLonger σ x n = if sa σ 606 g = 1 then (sYearly σ g * n, sau (sau σ 608 g (sa σ 608 g + 365 * n)) 204 0 (sa σ 204 0 + sYearly σ g * n)) else (-2, σ) := by
      unfold sLonger; rw [if_pos ⟨⟨g, hg, hx⟩, w, w2⟩, hxc]
    have hm := rc_gt R hg
    obtain ⟨g1, g2, -⟩ := R.2.2.2.2.1 g hg
    have hst : zi h 606 (A 1 g) = sa σ 606 g := g2 606 (by simp [rcGi])
    have hto : zi h 608 (A 1 g) = sa σ 608 g := g2 608 (by simp [rcGi])
    refine ⟨0, 0, Nat.zero_le _, Nat.zero_le _, sp_ok ⟨_, rfl, hm, fun q => ?_, fun q => ?_⟩⟩
    · rw [hst] at q
      rw [if_neg q] at base
      exact ⟨bc, bs, Nat.le_refl _, Nat.le_refl _, sp_no hc hs (hX _ base (Or.inr rfl))⟩
    · rw [hst] at q
      rw [if_pos q] at base
      refine ⟨0, 0, Nat.zero_le _, Nat.zero_le _, sp_ok ⟨_, rfl, hm, hm, fun h6 e6 => ?_⟩⟩
      rw [hto] at e6
      subst e6
      have R1 := rc_Gi R hg (f := 608) (x := sa σ 608 g + 365 * n) (by simp [rcGi])
      have hy : sYearly (sau σ 608 g (sa σ 608 g + 365 * n)) g = sYearly σ g := rfl
      refine sp_yearly R1 hg ⟨hb4, sp_paid R1 fun h' R2 => ?_⟩
      rw [hy] at R2 ⊢
      exact hQ _ _ h' base (hN g hg w w2) R2
  · unfold sLonger; rw [if_neg (fun q => hno q.1)]
end ZME
