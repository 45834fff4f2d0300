/-! METHODS of the component on the picture of a book: who is agreed to. -/
set_option maxRecDepth 100000
section ZAG
variable {G : Nat × Nat × Nat} {F : Nat → Prop} {h0 h h' : ZH} {A : ZA} {E : Nat → Nat} {σ : ZS} {cb b : Nat}
def upA (A : ZA) (k i a : Nat) : ZA := fun k' i' => if k' = k ∧ i' = i then a else A k' i'
theorem upA_k {A : ZA} {k i a k' : Nat} (h : ¬ k' = k) : upA A k i a k' = A k' := by
  funext i'
  exact if_neg (fun q => h q.1)
theorem upA_at {A : ZA} {k i a : Nat} : upA A k i a k i = a := if_pos ⟨rfl, rfl⟩
theorem upA_i {A : ZA} {k i a i' : Nat} (h : ¬ i' = i) : upA A k i a k i' = A k i' := if_neg (fun q => h q.2)
/-- nobody is told, in the grave g -/
def szu (σ : ZS) (g : Nat) : ZS := (σ.1, (fun k i => if k = 20 ∧ i / 150 = g then 0 else σ.2.1 k i), σ.2.2)
theorem sa_zu (σ : ZS) (g k i : Nat) : sa (szu σ g) k i = if k = 20 ∧ i / 150 = g then 0 else sa σ k i := rfl
theorem sa_zu_ne {σ : ZS} {g k i : Nat} (h : ¬ k = 20) : sa (szu σ g) k i = sa σ k i := if_neg (fun q => h q.1)
/-- a new array of who is told, not yet in its field -/
theorem rc_zu (R : rcAll G F h0 A E h σ cb b) {g a : Nat} (hg : g < sn σ 1) (hn : sa σ 613 g = -1) (hz : zt h a = 0) : rcAll G F h0 (upA A 4 g a) E (zarr h a 1 150) (szu σ g) cb b := by
  have R0 := R
  obtain ⟨B, nb, Hm, P, Gv, Fd, L, St, Ap, Pr⟩ := R
  have K : zK h (zarr h a 1 150) := fun c hc => by
    have hne : ¬ c = a := fun q => hc (q ▸ hz)
    exact ⟨by rw [zt_arr, if_neg hne], by rw [zl_arr, if_neg hne], fun f _ => ⟨rfl, rfl⟩, fun k i => by rw [zj_arr, if_neg hne], fun k i _ => by rw [zs_arr, if_neg hne]⟩
  have hA : zA h (zarr h a 1 150) a a a := ⟨K, fun c hc hca f => ⟨rfl, rfl⟩, fun c i hc hca => by rw [zs_arr, if_neg hca], Or.inl rfl⟩
  have e0 : upA A 4 g a 0 = A 0 := upA_k (by decide)
  have e1 : upA A 4 g a 1 = A 1 := upA_k (by decide)
  have e2 : upA A 4 g a 2 = A 2 := upA_k (by decide)
  have e3 : upA A 4 g a 3 = A 3 := upA_k (by decide)
  have e5 : upA A 4 g a 5 = A 5 := upA_k (by decide)
  have e7 : upA A 4 g a 7 = A 7 := upA_k (by decide)
  have e8 : upA A 4 g a 8 = A 8 := upA_k (by decide)
  have sz : ∀ k i, ¬ k = 20 → sa (szu σ g) k i = sa σ k i := fun k i hk => sa_zu_ne hk
  refine ⟨?_, nb, Hm.kp K, fun p hp => ?_, fun q hq => ?_, fun f hf => ?_, fun j hj => ?_, fun p hp k hk => ?_, ?_, fun c hc => ?_⟩
  · obtain ⟨b1, b2, b3, b4, b5, b6, b7⟩ := B.kp K
    exact ⟨b1, b2.trans (sz 203 0 (by decide)).symm, b3.trans (sz 204 0 (by decide)).symm, by rw [e5]; exact b4, by rw [e5]; exact b5, by rw [e5]; exact b6, b7⟩
  · obtain ⟨p1, p2, p3, p4, p5⟩ := (P p hp).kp K
    unfold rcPers
    rw [e0, e1, e5]
    refine ⟨p1, fun f hf => ?_, fun f hf => ?_, ?_, p5⟩
    · rw [sz f p (by simp [rcPi] at hf; omega)]; exact p2 f hf
    · rw [sz f p (by simp [rcPr] at hf; omega)]; exact p3 f hf
    · rw [sz 710 p (by decide)]; exact p4
  · obtain ⟨g1, g2, g3, g4, g5, g6⟩ := (Gv q hq).kp K
    unfold rcGrave
    rw [e0, e1, e5]
    refine ⟨by rw [sz 10 q (by decide)]; exact g1, fun f hf => ?_, fun f hf => ?_, g4, g5, ?_⟩
    · rw [sz f q (by simp [rcGi] at hf; omega)]; exact g2 f hf
    · rw [sz f q (by simp [rcGr] at hf; omega)]; exact g3 f hf
    · rw [sz 613 q (by decide)]
      by_cases hqg : q = g
      · subst hqg
        rcases g6 with w | w
        · exact Or.inl w
        · exact absurd (w.2.1.symm.trans hn) (fun z => nI_pos (by have := rc_sz1 R0; omega : q < 2 ^ 31) (z ▸ (by decide : (-1 : Int32) < 0)))
      · rw [upA_i hqg]
        refine g6.imp id fun w => ⟨w.1, w.2.1, w.2.2.1, w.2.2.2.1, fun p hp => ?_⟩
        rw [sa_zu, if_neg (fun z => hqg (by omega))]; exact w.2.2.2.2 p hp
  · obtain ⟨f1, f2, f3, f4, f5, f6, n, f7, f8, f9⟩ := (Fd f hf).kp K Hm
    unfold rcField
    rw [e2, e7, e3]
    refine ⟨f1, f2.trans (sz 500 f (by decide)).symm, f3, f4.trans (sz 502 f (by decide)).symm, f5, f6, n, f7, (sz 502 f (by decide)).trans f8, fun i hi => ?_⟩
    rw [sz 501 _ (by decide)]
    refine (f9 i hi).imp id fun w => ⟨w.1, w.2.1, ?_⟩
    obtain ⟨r1, r2, r3, r4⟩ := w.2.2
    unfold rcRow
    rw [e3, sz 5 _ (by decide), sz 6 _ (by decide)]
    refine ⟨r1, r2, r3, fun m hm => ?_⟩
    rw [sz 8 _ (by decide)]
    unfold rcSpot
    rw [e1]; exact r4 m hm
  · have hL := L j hj
    have ec : rcCon (upA A 4 g a) (szu σ g) j = rcCon A σ j := by
      unfold rcCon
      rw [e0, e1, e2, e8]; rfl
    rw [e5, ec]
    exact hL.kept hA (fun q => hL.ne.1 (q ▸ hz)) (Or.inl (fun q => hL.ne.2.1 (q ▸ hz)))
  · obtain ⟨s1, d, t, s2, s3, s4⟩ := (St p hp k hk).kp K
    unfold rcStay
    rw [e8, e1]
    exact ⟨s1, d, t, s2, s3, s4⟩
  · obtain ⟨a1, a2, a3, a4, a5, a6, a7, a8, a9⟩ := Ap
    have rl : ∀ r, rcRowLive (szu σ g) r → rcRowLive σ r := fun r hr => hr
    have zle : ∀ j, rcLive σ j → zl (zarr h a 1 150) (E j) = zl h (E j) := fun j hj => by rw [zl_arr, if_neg (fun q : E j = a => (L j hj).ne.2.1 (q ▸ hz))]
    unfold rcApart
    rw [e5, e3]
    refine ⟨fun k n hk => ?_, a2, a3, fun i j hi hj he => by rw [zle i hi]; exact a4 i j hi hj he, fun i hi => by rw [zle i hi]; exact a5 i hi, a6, a7, fun i j hi hj h1 h2 he => ?_, fun i hi h1 => ?_⟩
    · have : ¬ k = 4 := by omega
      rw [upA_k this]; exact a1 k n hk
    · rw [sz 613 _ (by decide)] at h1 h2
      have n1 : ¬ i = g := fun q => h1 (q ▸ hn)
      have n2 : ¬ j = g := fun q => h2 (q ▸ hn)
      rw [upA_i n1, upA_i n2] at he
      exact a8 i j hi hj h1 h2 he
    · rw [sz 613 _ (by decide)] at h1
      have n1 : ¬ i = g := fun q => h1 (q ▸ hn)
      rw [upA_i n1]; exact a9 i hi h1
  · obtain ⟨q1, q2, q3, q4, q5⟩ := Pr c hc
    have hne : ¬ c = a := fun q => q1 (by rw [← q2, q]; exact hz)
    refine ⟨q1, by rw [zt_arr, if_neg hne]; exact q2, by rw [zl_arr, if_neg hne]; exact q3, q4, fun k i hi => ?_⟩
    rw [zj_arr, zs_arr, if_neg hne, if_neg hne]; exact q5 k i hi
/-- the array of who is told put into its field -/
theorem rc_T1 (R : rcAll G F h0 A E h σ cb b) {g a : Nat} (hg : g < sn σ 1) (ha : A 4 g = a) (ht : zt h a = 21) (hl : zl h a = 150) (hz : ∀ p, p < 150 → zj h 1 a p = sa σ 20 (150 * g + p)) (hF : ¬ F a) (hne : ∀ i, i < sn σ 1 → ¬ sa σ 613 i = -1 → A 4 i = a → i = g) : rcAll G F h0 A E (zpr h 613 (A 1 g) (some a)) (sau σ 613 g (nI g)) cb b := by
  have R0 := R
  obtain ⟨B, nb, Hm, P, Gv, Fd, L, St, Ap, Pr⟩ := R
  have h31 := rc_sz1 R0
  have ne : ∀ k, ¬ k = 613 → ∀ i, sa (sau σ 613 g (nI g)) k i = sa σ k i := fun k hk i => by rw [sa_au, if_neg (fun q => hk q.1)]
  have nz : ∀ k c, ¬ k = 613 → zr (zpr h 613 (A 1 g) (some a)) k c = zr h k c := fun k c hk => by rw [zr_pr, if_neg (fun q => hk q.1)]
  refine ⟨?_, nb, ?_, fun p hp => ?_, fun q hq => ?_, fun f hf => ?_, fun j hj => ?_, fun p hp k hk => ?_, ?_, fun c hc => ?_⟩
  · obtain ⟨b1, b2, b3, b4, b5, b6, b7⟩ := B
    exact ⟨b1, b2.trans (ne 203 (by decide) 0).symm, b3.trans (ne 204 (by decide) 0).symm, (nz 200 b (by decide)).trans b4, (nz 201 b (by decide)).trans b5, (nz 202 b (by decide)).trans b6, (nz 205 b (by decide)).trans b7⟩
  · obtain ⟨m1, ⟨tr, wy, m2, m3, m4, m5⟩, m6⟩ := Hm
    exact ⟨m1, ⟨tr, wy, (nz 100 cb (by decide)).trans m2, m3, (nz 101 cb (by decide)).trans m4, m5⟩, m6⟩
  · obtain ⟨p1, p2, p3, p4, p5⟩ := P p hp
    refine ⟨p1, fun f hf => ?_, fun f hf => ?_, ?_, (nz 713 _ (by decide)).trans p5⟩
    · rw [ne f (by simp [rcPi] at hf; omega)]; exact p2 f hf
    · rw [ne f (by simp [rcPr] at hf; omega), nz f _ (by simp [rcPr] at hf; omega)]; exact p3 f hf
    · rw [ne 710 (by decide), nz 710 _ (by decide)]; exact p4
  · obtain ⟨g1, g2, g3, g4, g5, g6⟩ := Gv q hq
    refine ⟨by rw [ne 10 (by decide)]; exact g1, fun f hf => ?_, fun f hf => ?_, (nz 611 _ (by decide)).trans g4, (nz 615 _ (by decide)).trans g5, ?_⟩
    · rw [ne f (by simp [rcGi] at hf; omega)]; exact g2 f hf
    · rw [ne f (by simp [rcGr] at hf; omega), nz f _ (by simp [rcGr] at hf; omega)]; exact g3 f hf
    · by_cases hqg : q = g
      · subst hqg
        rw [zr_pr, if_pos ⟨rfl, rfl⟩, sa_au, if_pos ⟨rfl, rfl⟩]
        right
        rw [ha]
        exact ⟨rfl, rfl, ht, hl, fun p hp => by rw [ne 20 (by decide)]; exact hz p hp⟩
      · rw [zr_pr, if_neg (fun w => hqg (rc_inj1 R0 hq hg w.2)), sa_au, if_neg (fun w => hqg w.2)]
        refine g6.imp id fun w => ⟨w.1, w.2.1, w.2.2.1, w.2.2.2.1, fun p hp => ?_⟩
        rw [ne 20 (by decide)]; exact w.2.2.2.2 p hp
  · obtain ⟨f1, f2, f3, f4, f5, f6, n, f7, f8, f9⟩ := Fd f hf
    refine ⟨f1, f2.trans (ne 500 (by decide) f).symm, (nz 501 _ (by decide)).trans f3, f4.trans (ne 502 (by decide) f).symm, f5, f6, n, f7, (ne 502 (by decide) f).trans f8, fun i hi => ?_⟩
    rw [ne 501 (by decide)]
    refine (f9 i hi).imp id fun w => ⟨w.1, w.2.1, ?_⟩
    obtain ⟨r1, r2, r3, r4⟩ := w.2.2
    unfold rcRow
    rw [ne 5 (by decide), ne 6 (by decide)]
    refine ⟨r1, r2, r3, fun m hm => ?_⟩
    rw [ne 8 (by decide)]
    unfold rcSpot
    rw [nz 100 _ (by decide), nz 101 _ (by decide)]; exact r4 m hm
  · obtain ⟨l1, l2, l3, l4, l5, l6, l7, l8⟩ := L j hj
    exact ⟨l1, l2, (nz 301 _ (by decide)).trans l3, l4, l5, l6, l7, l8⟩
  · obtain ⟨s1, d, t, s2, s3, s4⟩ := St p hp k hk
    exact ⟨s1, d, t, s2, s3, (nz 801 _ (by decide)).trans s4⟩
  · obtain ⟨a1, a2, a3, a4, a5, a6, a7, a8, a9⟩ := Ap
    have rl : ∀ r, rcRowLive (sau σ 613 g (nI g)) r → rcRowLive σ r := by
      intro r hr
      obtain ⟨r1, r2, r3⟩ := hr
      rw [ne 502 (by decide)] at r2
      rw [ne 501 (by decide)] at r3
      exact ⟨r1, r2, r3⟩
    have t9 : ∀ i, ¬ i = g → sa (sau σ 613 g (nI g)) 613 i = sa σ 613 i := fun i hi => by rw [sa_au, if_neg (fun q => hi q.2)]
    refine ⟨a1, a2, a3, a4, a5, fun i j hi hj => a6 i j (rl i hi) (rl j hj), fun i hi => a7 i (rl i hi), fun i j hi hj h1 h2 he => ?_, fun i hi h1 => ?_⟩
    · by_cases q1 : i = g
      · by_cases q2 : j = g
        · exact q1.trans q2.symm
        · rw [t9 j q2] at h2
          exact absurd (hne j hj h2 (by rw [← he, q1, ha])) q2
      · by_cases q2 : j = g
        · rw [t9 i q1] at h1
          exact absurd (hne i hi h1 (by rw [he, q2, ha])) q1
        · rw [t9 i q1] at h1
          rw [t9 j q2] at h2
          exact a8 i j hi hj h1 h2 he
    · by_cases q1 : i = g
      · rw [q1, ha]; exact hF
      · rw [t9 i q1] at h1
        exact a9 i hi h1
  · obtain ⟨q1, q2, q3, q4, q5⟩ := Pr c hc
    refine ⟨q1, q2, q3, fun k => ⟨(q4 k).1, ?_⟩, q5⟩
    rw [zr_pr, if_neg (fun w : k = 613 ∧ c = A 1 g => rc_nF1 R0 hg (w.2 ▸ hc))]; exact (q4 k).2
/-- an entry of who is told -/
theorem rc_T2 (R : rcAll G F h0 A E h σ cb b) {g p : Nat} {x : Int32} (hg : g < sn σ 1) (hp : p < 150) (hs : ¬ sa σ 613 g = -1) : rcAll G F h0 A E (zpj h 1 (A 4 g) p x) (sau σ 20 (150 * g + p) x) cb b := by
  have R0 := R
  obtain ⟨B, nb, Hm, P, Gv, Fd, L, St, Ap, Pr⟩ := R
  have ne : ∀ k, ¬ k = 20 → ∀ i, sa (sau σ 20 (150 * g + p) x) k i = sa σ k i := fun k hk i => by rw [sa_au, if_neg (fun q => hk q.1)]
  have Ap0 := Ap
  obtain ⟨a1, a2, a3, a4, a5, a6, a7, a8, a9⟩ := Ap
  refine ⟨?_, nb, Hm, fun q hq => ?_, fun q hq => ?_, fun f hf => ?_, L, St, ?_, fun c hc => ?_⟩
  · obtain ⟨b1, b2, b3, b4⟩ := B
    exact ⟨b1, b2.trans (ne 203 (by decide) 0).symm, b3.trans (ne 204 (by decide) 0).symm, b4⟩
  · obtain ⟨p1, p2, p3, p4, p5⟩ := P q hq
    refine ⟨p1, fun f hf => ?_, fun f hf => ?_, ?_, p5⟩
    · rw [ne f (by simp [rcPi] at hf; omega)]; exact p2 f hf
    · rw [ne f (by simp [rcPr] at hf; omega)]; exact p3 f hf
    · rw [ne 710 (by decide)]; exact p4
  · obtain ⟨g1, g2, g3, g4, g5, g6⟩ := Gv q hq
    refine ⟨by rw [ne 10 (by decide)]; exact g1, fun f hf => ?_, fun f hf => ?_, g4, g5, ?_⟩
    · rw [ne f (by simp [rcGi] at hf; omega)]; exact g2 f hf
    · rw [ne f (by simp [rcGr] at hf; omega)]; exact g3 f hf
    · rw [ne 613 (by decide)]
      rcases g6 with w | w
      · exact Or.inl w
      · refine Or.inr ⟨w.1, w.2.1, w.2.2.1, w.2.2.2.1, fun m hm => ?_⟩
        rw [zj_pj, sa_au]
        by_cases hqm : q = g ∧ m = p
        · rw [if_pos ⟨rfl, by rw [hqm.1], hqm.2⟩, if_pos ⟨rfl, by rw [hqm.1, hqm.2]⟩]
        · have n1 : ¬ (A 4 q = A 4 g ∧ m = p) := fun z => hqm ⟨a8 q g hq hg (fun y => by rw [w.2.1] at y; exact nI_pos (by have := rc_sz1 R0; have : q < sn σ 1 := hq; omega : q < 2 ^ 31) (y ▸ (by decide : (-1 : Int32) < 0))) hs z.1, z.2⟩
          rw [if_neg (fun z => n1 ⟨z.2.1, z.2.2⟩), if_neg (fun z => hqm (by omega))]
          exact w.2.2.2.2 m hm
  · obtain ⟨f1, f2, f3, f4, f5, f6, n, f7, f8, f9⟩ := Fd f hf
    refine ⟨f1, f2.trans (ne 500 (by decide) f).symm, f3, f4.trans (ne 502 (by decide) f).symm, f5, f6, n, f7, (ne 502 (by decide) f).trans f8, fun i hi => ?_⟩
    rw [ne 501 (by decide)]
    refine (f9 i hi).imp id fun w => ⟨w.1, w.2.1, ?_⟩
    obtain ⟨r1, r2, r3, r4⟩ := w.2.2
    unfold rcRow
    rw [ne 5 (by decide), ne 6 (by decide)]
    refine ⟨r1, r2, r3, fun m hm => ?_⟩
    rw [ne 8 (by decide)]; exact r4 m hm
  · have rl : ∀ r, rcRowLive (sau σ 20 (150 * g + p) x) r → rcRowLive σ r := by
      intro r hr
      obtain ⟨r1, r2, r3⟩ := hr
      rw [ne 502 (by decide)] at r2
      rw [ne 501 (by decide)] at r3
      exact ⟨r1, r2, r3⟩
    have t9 : ∀ i, sa (sau σ 20 (150 * g + p) x) 613 i = sa σ 613 i := fun i => ne 613 (by decide) i
    exact ⟨a1, a2, a3, a4, a5, fun i j hi hj => a6 i j (rl i hi) (rl j hj), fun i hi => a7 i (rl i hi), fun i j hi hj h1 h2 => a8 i j hi hj (by rw [← t9]; exact h1) (by rw [← t9]; exact h2), fun i hi h1 => a9 i hi (by rw [← t9]; exact h1)⟩
  · obtain ⟨q1, q2, q3, q4, q5⟩ := Pr c hc
    refine ⟨q1, q2, q3, q4, fun k i hi => ⟨?_, (q5 k i hi).2⟩⟩
    rw [zj_pj, if_neg (fun w : k = 1 ∧ c = A 4 g ∧ i = p => a9 g hg hs (w.2.1 ▸ hc))]; exact (q5 k i hi).1
/-- the act 'agree' -/
def sAgree (σ : ZS) (x p y : Int32) : Int32 × ZS :=
  if (∃ g, g < sn σ 1 ∧ x = nI g) ∧ (∃ j, j < sn σ 2 ∧ p = nI j) ∧ (y = 0 ∨ y = 1) then
    if sa σ 606 x.toNatClampNeg = 1 then
      (0, sau (if sa σ 613 x.toNatClampNeg = -1 then sau (szu σ x.toNatClampNeg) 613 x.toNatClampNeg x else σ) 20 (150 * x.toNatClampNeg + p.toNatClampNeg) y)
    else (-2, σ)
  else (-1, σ)
theorem sp_agree (R : rcAll G F h0 A E h σ cb b) {Q : Int32 → ZH → Prop} {XE : String → Nat → ZH → Prop} {bc bs : Nat} {x p y : Int32} (hc : 1 ≤ bc) (hs : 150 ≤ bs)
    (hX : ∀ v, sAgree σ x p y = (v, σ) → (v = -1 ∨ v = -2) → ∀ a h', zt h' a = 6 → zi h' 400 a = v → zFr h h' → XE "ChurchyardBook$Refused" a h')
    (hQ : ∀ σ' A' h', sAgree σ x p y = (0, σ') → rcAll G F h0 A' E h' σ' cb b → Q 0 h') : fc_X5_agree G b Q XE h bc bs x p y := by
  have hb4 : zt h b = 4 := R.1.1
  have h31 := rc_sz1 R
  have h32 := rc_sz2 R
  have bad : ∀ q, sAgree σ x p y = (-1, σ) → fc_X5_agree_33 G b Q XE h bc bs p y q := fun q hn => ⟨bc, bs, Nat.le_refl _, Nat.le_refl _, sp_no hc (by omega) (hX _ hn (Or.inl rfl))⟩
  refine ⟨hb4, sp_grave R (fun g hg hx => ⟨fun w => (nomatch w), fun b2 e2 => ⟨hb4, sp_person R (fun j hj hp => ⟨fun w => (nomatch w), fun b4 e4 => ?_⟩) (fun hno => ⟨fun w => bad _ ?_, fun b4 e4 => (nomatch e4)⟩)⟩⟩) (fun hno => ⟨fun w => bad _ ?_, fun b2 e2 => (nomatch e2)⟩)⟩
  · have hxc : x.toNatClampNeg = g := by rw [hx]; exact nI_clamp (by omega)
    have hpc : p.toNatClampNeg = j := by rw [hp]; exact nI_clamp (by omega)
    have good : (y = 0 ∨ y = 1) → fc_X5_agree_29 G b Q XE h bc bs p y (some (A 1 g)) := by
      intro hy
      have base : sAgree σ x p y = if sa σ 606 g = 1 then (0, sau (if sa σ 613 g = -1 then sau (szu σ g) 613 g x else σ) 20 (150 * g + j) y) else (-2, σ) := by
        unfold sAgree; rw [if_pos ⟨⟨g, hg, hx⟩, ⟨j, hj, hp⟩, hy⟩, hxc, hpc]
      have hm := rc_gt R hg
      obtain ⟨g1, g2, g3, g4, g5, g6⟩ := R.2.2.2.2.1 g hg
      have hst : zi h 606 (A 1 g) = sa σ 606 g := g2 606 (by simp [rcGi])
      refine ⟨0, 0, Nat.zero_le _, Nat.zero_le _, sp_ok ⟨_, rfl, hm, fun q => ?_, fun q => ?_⟩⟩
      · rw [hst] at q
        rw [if_neg q] at base
        exact ⟨bc, bs, Nat.le_refl _, Nat.le_refl _, sp_no hc (by omega) (hX _ base (Or.inr rfl))⟩
      · rw [hst] at q
        rw [if_pos q] at base
        have put : ∀ (A' : ZA) (σ' : ZS) (hh : ZH) (c1 s1 : Nat), rcAll G F h0 A' E hh σ' cb b → A' 1 g = A 1 g → g < sn σ' 1 → zr hh 613 (A 1 g) = some (A' 4 g) → ¬ sa σ' 613 g = -1 → zt hh (A' 4 g) = 21 → zl hh (A' 4 g) = 150 → (sAgree σ x p y = (0, sau σ' 20 (150 * g + j) y)) → fc_X5_agree_75 G b Q XE hh c1 s1 p y (some (A 1 g)) := by
          intro A' σ' hh c1 s1 R' ea hg' hr hn ht hl hres
          have hm' : zt hh (A 1 g) ∈ [8, 9, 10, 11, 12, 13] := by rw [← ea]; exact rc_gt R' hg'
          refine ⟨_, rfl, hm', fun z => ⟨A' 4 g, hr, ht, by rw [hl, hp]; exact nI_in (by omega) (by omega), fun h2 e2 => ?_⟩, fun z => ⟨A' 4 g, hr, ht, by rw [hl, hp]; exact nI_in (by omega) (by omega), fun h2 e2 => ?_⟩⟩
          · rw [hpc] at e2
            have e2 : h2 = zpj hh 1 (A' 4 g) j 0 := e2
            subst e2
            have y0 : y = 0 := hy.elim id (fun w => absurd w z)
            exact hQ _ A' _ hres (by rw [y0]; exact rc_T2 R' hg' (by omega) hn)
          · rw [hpc] at e2
            have e2 : h2 = zpj hh 1 (A' 4 g) j 1 := e2
            subst e2
            exact hQ _ A' _ hres (by rw [z]; exact rc_T2 R' hg' (by omega) hn)
        refine ⟨0, 0, Nat.zero_le _, Nat.zero_le _, sp_ok ⟨_, rfl, hm, fun w => ?_, fun b6 w => ?_⟩⟩
        · have hn : sa σ 613 g = -1 := by
            rcases g6 with z | z
            · exact z.2
            · rw [z.1] at w; cases w
          rw [if_pos hn] at base
          refine ⟨by decide, by decide, hc, hs, fun a7 h8 hz e8 => ?_⟩
          have e8 : h8 = zarr h a7 1 150 := e8
          subst e8
          have R1 := rc_zu R hg hn hz
          have hga : ¬ A 1 g = a7 := fun q => by rw [q, hz] at g1; exact (rcKind_pos _).1 g1.symm
          refine ⟨by rw [zt_arr, if_neg hga]; exact hm, fun h9 e9 => ?_⟩
          subst e9
          have R2 := rc_T1 (a := a7) R1 hg upA_at (by rw [zt_arr, if_pos rfl]) (by rw [zl_arr, if_pos rfl]) (fun q hq => by rw [zj_arr, if_pos rfl, sa_zu, if_pos ⟨rfl, by omega⟩]) (fun hF => by have := R.2.2.2.2.2.2.2.2.2 a7 hF; exact this.1 (this.2.1.symm.trans hz)) (fun i hi h1 h2 => Classical.byContradiction fun hne => by
            rw [upA_i hne] at h2
            rw [sa_zu_ne (by decide)] at h1
            rcases (R.2.2.2.2.1 i hi).2.2.2.2.2 with z | z
            · exact h1 z.2
            · have := z.2.2.1
              rw [h2, hz] at this; omega)
          rw [show upA A 4 g a7 1 = A 1 from upA_k (by decide)] at R2
          refine put _ _ _ _ _ R2 (by rw [show upA A 4 g a7 1 = A 1 from upA_k (by decide)]) hg (by rw [zr_pr, if_pos ⟨rfl, rfl⟩, upA_at]) (by rw [sa_au, if_pos ⟨rfl, rfl⟩]; exact fun z => nI_pos (by omega : g < 2 ^ 31) (z ▸ (by decide : (-1 : Int32) < 0))) (by rw [upA_at, zt_pr, zt_arr, if_pos rfl]) (by rw [upA_at, zl_pr, zl_arr, if_pos rfl]) ?_
          rw [base, hx]
        · rcases g6 with z | z
          · rw [z.1] at w; cases w
          · have hn : ¬ sa σ 613 g = -1 := by rw [z.2.1]; exact fun y => nI_pos (by omega : g < 2 ^ 31) (y ▸ (by decide : (-1 : Int32) < 0))
            rw [if_neg hn] at base
            exact put A σ h _ _ R rfl hg z.1 hn z.2.2.1 z.2.2.2.1 base
    refine ⟨fun z => good (Or.inl z), fun z => ⟨fun z2 => bad _ ?_, fun z2 => good (Or.inr z2)⟩⟩
    unfold sAgree; rw [if_neg (fun q => q.2.2.elim z z2)]
  · unfold sAgree; rw [if_neg (fun q => hno q.2.1)]
  · unfold sAgree; rw [if_neg (fun q => hno q.1)]
end ZAG
