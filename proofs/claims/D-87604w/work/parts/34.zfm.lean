/-! THE PICTURE of a book beside a list of the machine's own making. -/
set_option maxRecDepth 100000
/-- all that there was is as it was, as far as arrays reach -/
def zFm (h h' : ZH) : Prop := ∀ b, zt h b ≠ 0 → zSm h h' b
theorem zFr.m {h h' : ZH} (r : zFr h h') : zFm h h' := fun b hb => by
  obtain ⟨r1, r2, r3, r4⟩ := r b hb
  exact ⟨r1, r2, r3, fun k i _ => r4 k i⟩
theorem zFm.tr {h h1 h2 : ZH} (a : zFm h h1) (b : zFm h1 h2) : zFm h h2 := by
  intro c hc
  obtain ⟨a1, a2, a3, a4⟩ := a c hc
  obtain ⟨b1, b2, b3, b4⟩ := b c (by rw [a1]; exact hc)
  exact ⟨b1.trans a1, b2.trans a2, fun f => ⟨(b3 f).1.trans (a3 f).1, (b3 f).2.trans (a3 f).2⟩, fun k i hi => ⟨(b4 k i (by rw [a2]; exact hi)).1.trans (a4 k i hi).1, (b4 k i (by rw [a2]; exact hi)).2.trans (a4 k i hi).2⟩⟩
theorem zFm.z {h h' : ZH} (r : zFm h h') {a : Nat} (hz : zt h' a = 0) : zt h a = 0 := by
  by_cases q : zt h a = 0
  · exact q
  · rw [(r a q).1] at hz; exact hz
section ZFM
variable {G : Nat × Nat × Nat} {F : Nat → Prop} {h0 h h' : ZH} {A A' : ZA} {E E' : Nat → Nat} {σ σ' : ZS} {cb b : Nat} {C : Nat → List Nat}
theorem zL.fm {a e : Nat} {l : List Nat} (k : zL h a e l) (q : zFm h h') : zL h' a e l := by
  obtain ⟨n1, n2, n3⟩ := k.ne
  obtain ⟨k1, k2, k3, k4, k5, k6, k7, k8⟩ := k
  obtain ⟨a1, a2, a3, a4⟩ := q a n1
  obtain ⟨e1, e2, e3, e4⟩ := q e n2
  refine ⟨a1.trans k1, (a3 302).1.trans k2, (a3 301).2.trans k3, e1.trans k4, by rw [e2]; exact k5, by rw [e2]; exact k6, fun i hi => (e4 2 i (by omega)).2.trans (k7 i hi), fun x hx => ?_⟩
  have h8 := k8 x hx
  have hx0 : zt h x ≠ 0 := fun w => by rw [w] at h8; simp [zas] at h8
  rw [(q x hx0).1]; exact h8
theorem rcAllC.fm (R : rcAllC G F h0 A E h σ C cb b) (q : zFm h h') : rcAllC G F h0 A E h' σ C cb b := by
  obtain ⟨B, nb, Hm, P, Gv, Fd, L, St, Ap, Pr⟩ := R
  obtain ⟨a1, a2, a3, a4, a5, a6, a7, a8, a9⟩ := Ap
  have zle : ∀ j, rcLive σ j → zl h' (E j) = zl h (E j) := fun j hj => (q _ (L j hj).ne.2.1).2.1
  refine ⟨?_, nb, ?_, fun p hp => ?_, fun g hg => ?_, fun f hf => ?_, fun j hj => (L j hj).fm q, fun p hp k hk => ?_, ⟨a1, a2, a3, fun i j hi hj he => by rw [zle i hi]; exact a4 i j hi hj he, fun i hi => by rw [zle i hi]; exact a5 i hi, a6, a7, a8, a9⟩, fun a ha => ⟨(Pr a ha).1, ?_⟩⟩
  · obtain ⟨b1, b2, b3, b4, b5, b6, b7⟩ := B
    obtain ⟨k1, k2, k3, k4⟩ := q b (by omega)
    exact ⟨k1.trans b1, (k3 203).1.trans b2, (k3 204).1.trans b3, (k3 200).2.trans b4, (k3 201).2.trans b5, (k3 202).2.trans b6, (k3 205).2.trans b7⟩
  · obtain ⟨q1, ⟨tr, wy, q2, q3, q4, q5⟩, ⟨q6, q7⟩, q8, q9⟩ := Hm
    obtain ⟨k1, k2, k3, k4⟩ := q cb (by omega)
    obtain ⟨t1, -⟩ := q tr (by omega)
    obtain ⟨w1, -⟩ := q wy (by omega)
    obtain ⟨c1, c2, -⟩ := q G.1 (by omega)
    obtain ⟨d1, d2, -⟩ := q G.2.1 (by omega)
    exact ⟨k1.trans q1, ⟨tr, wy, (k3 100).2.trans q2, t1.trans q3, (k3 101).2.trans q4, w1.trans q5⟩, ⟨c1.trans q6, c2.trans q7⟩, d1.trans q8, d2.trans q9⟩
  · obtain ⟨p1, p2, p3, p4, p5⟩ := P p hp
    obtain ⟨k1, k2, k3, k4⟩ := q (A 0 p) (by omega)
    exact ⟨k1.trans p1, fun f hf => (k3 f).1.trans (p2 f hf), fun f hf => (k3 f).2.trans (p3 f hf), (k3 710).2.trans p4, (k3 713).2.trans p5⟩
  · obtain ⟨q1, q2, q3, q4, q5, q6⟩ := Gv g hg
    obtain ⟨k1, k2, k3, k4⟩ := q (A 1 g) (by rw [q1]; exact (rcKind_pos _).1)
    refine ⟨k1.trans q1, fun f hf => (k3 f).1.trans (q2 f hf), fun f hf => (k3 f).2.trans (q3 f hf), (k3 611).2.trans q4, (k3 615).2.trans q5, ?_⟩
    refine q6.imp (fun w => ⟨(k3 613).2.trans w.1, w.2⟩) (fun w => ?_)
    obtain ⟨w1, w2, w3, w4, w5⟩ := w
    obtain ⟨m1, m2, m3, m4⟩ := q (A 4 g) (by omega)
    exact ⟨(k3 613).2.trans w1, w2, m1.trans w3, m2.trans w4, fun p hp => (m4 1 p (by omega)).1.trans (w5 p hp)⟩
  · obtain ⟨q1, q2, q3, q4, q5, q6, n, q7, q8, q9⟩ := Fd f hf
    obtain ⟨k1, k2, k3, k4⟩ := q (A 2 f) (by omega)
    obtain ⟨m1, m2, m3, m4⟩ := q (A 7 f) (by omega)
    obtain ⟨c1, c2, c3, -⟩ := q cb (by have := Hm.1; omega)
    refine ⟨k1.trans q1, (k3 500).1.trans q2, (k3 501).2.trans q3, (k3 502).1.trans q4, m1.trans q5, m2.trans q6, n, q7, q8, fun i hi => ?_⟩
    refine (q9 i hi).imp (fun w => ⟨w.1, (m4 7 i (by omega)).2.trans w.2⟩) (fun w => ⟨w.1, (m4 7 i (by omega)).2.trans w.2.1, ?_⟩)
    obtain ⟨r1, r2, r3, r4⟩ := w.2.2
    have hr0 : zt h (A 3 (12 * f + i)) ≠ 0 := by
      rw [r1]
      repeat' split
      all_goals omega
    obtain ⟨s1, s2, s3, s4⟩ := q _ hr0
    refine ⟨s1.trans r1, by rw [s2]; exact r2, by rw [s2]; exact r3, fun m hm => ?_⟩
    rw [s2] at hm
    have e : ∀ y, rcSpot A h' cb y = rcSpot A h cb y := fun y => by unfold rcSpot; rw [(c3 100).2, (c3 101).2]
    rw [e, (s4 3 m hm).2]; exact r4 m hm
  · obtain ⟨s1, d, t, s2, s3, s4⟩ := St p hp k hk
    obtain ⟨k1, k2, k3, k4⟩ := q _ (by rw [s1]; decide : zt h (A 8 (1000 * p + k)) ≠ 0)
    exact ⟨k1.trans s1, d, t, s2, (k3 800).1.trans s3, (k3 801).2.trans s4⟩
  · obtain ⟨p1, p2, p3, p4⟩ := (Pr a ha).2
    obtain ⟨k1, k2, k3, k4⟩ := q a (by rw [p1]; exact (Pr a ha).1)
    exact ⟨k1.trans p1, k2.trans p2, fun f => ⟨(k3 f).1.trans (p3 f).1, (k3 f).2.trans (p3 f).2⟩, fun k i hi => ⟨(k4 k i (by omega)).1.trans (p4 k i hi).1, (k4 k i (by omega)).2.trans (p4 k i hi).2⟩⟩
theorem rc_fm (R : rcAll G F h0 A E h σ cb b) (q : zFm h h') : rcAll G F h0 A E h' σ cb b := (R.toC.fm q).all fun _ _ => rfl
/-- a list made since -/
def zTmp (hb h : ZH) (a e : Nat) (l : List Nat) : Prop := zFm hb h ∧ zL h a e l ∧ zt hb a = 0 ∧ (zt hb e = 0 ∨ zl hb e = 0)
theorem zTmp.step {hb : ZH} {a e e' : Nat} {l l' : List Nat} (t : zTmp hb h a e l) (hL : zL h' a e' l') (hA : zA h h' a e e') : zTmp hb h' a e' l' := by
  obtain ⟨t1, t2, t3, t4⟩ := t
  obtain ⟨K, k1, k2, k3⟩ := hA
  refine ⟨fun c hc => ?_, hL, t3, ?_⟩
  · obtain ⟨s1, s2, s3, s4⟩ := t1 c hc
    have hz : zt h c ≠ 0 := by rw [s1]; exact hc
    have hca : c ≠ a := fun q => hc (q ▸ t3)
    obtain ⟨m1, m2, m3, m4, m5⟩ := K c hz
    refine ⟨m1.trans s1, m2.trans s2, fun f => ⟨(k1 c hz hca f).1.trans (s3 f).1, (k1 c hz hca f).2.trans (s3 f).2⟩, fun k i hi => ⟨(m4 k i).trans (s4 k i hi).1, ?_⟩⟩
    by_cases hk : k = 2
    · subst hk
      by_cases hce : c = e
      · rcases t4 with z | z
        · exact absurd (hce ▸ z) hc
        · rw [hce, z] at hi; exact absurd hi (Nat.not_lt_zero _)
      · rw [k2 c i hz hce]; exact (s4 2 i hi).2
    · exact (m5 k i hk).trans (s4 k i hi).2
  · rcases k3 with q | q
    · rw [q]; exact t4
    · exact Or.inl (t1.z q)
/-- such a list, when a list of the book was written -/
theorem zTmp.kept {hb : ZH} {a e j e' : Nat} {l : List Nat} (t : zTmp hb h a e l) (R : rcAll G F h0 A E h σ cb b) (hj : rcLive σ j) (n1 : a ≠ A 5 j) (n2 : E j ≠ e ∨ zl h e = 0) (hA : zA h h' (A 5 j) (E j) e') : zL h' a e l := by
  refine t.2.1.kept hA n1 ?_
  by_cases q : e = E j
  · right
    have hz : zl h e = 0 := n2.resolve_left fun z => z q.symm
    have := t.2.1.2.2.2.2.1
    exact List.eq_nil_of_length_eq_zero (by omega)
  · exact Or.inl q
end ZFM
