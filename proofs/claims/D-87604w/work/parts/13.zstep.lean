/-! SINGLE WRITES: a field of the heap and the attribute of the plain state that it stands for. -/
set_option maxRecDepth 100000
section ZST
variable {G : Nat × Nat × Nat} {F : Nat → Prop} {h0 h : ZH} {A : ZA} {E : Nat → Nat} {σ : ZS} {cb b : Nat}
theorem rc_inj0 (R : rcAll G F h0 A E h σ cb b) {p q : Nat} (hp : p < sn σ 2) (hq : q < sn σ 2) (e : A 0 p = A 0 q) : p = q := (R.2.2.2.2.2.2.2.2.1.1 0 _ (Or.inl ⟨rfl, rfl⟩)).1 p q hp hq e
theorem rc_inj1 (R : rcAll G F h0 A E h σ cb b) {p q : Nat} (hp : p < sn σ 1) (hq : q < sn σ 1) (e : A 1 p = A 1 q) : p = q := (R.2.2.2.2.2.2.2.2.1.1 1 _ (Or.inr (Or.inl ⟨rfl, rfl⟩))).1 p q hp hq e
theorem rc_nF0 (R : rcAll G F h0 A E h σ cb b) {p : Nat} (hp : p < sn σ 2) : ¬ F (A 0 p) := (R.2.2.2.2.2.2.2.2.1.1 0 _ (Or.inl ⟨rfl, rfl⟩)).2 p hp
theorem rc_nF1 (R : rcAll G F h0 A E h σ cb b) {p : Nat} (hp : p < sn σ 1) : ¬ F (A 1 p) := (R.2.2.2.2.2.2.2.2.1.1 1 _ (Or.inr (Or.inl ⟨rfl, rfl⟩))).2 p hp
/-- an int field of a person -/
theorem rc_Pi (R : rcAll G F h0 A E h σ cb b) {p f : Nat} {x : Int32} (hp : p < sn σ 2) (hf : f ∈ rcPi) : rcAll G F h0 A E (zpi h f (A 0 p) x) (sau σ f p x) cb b := by
  have R0 := R
  obtain ⟨B, nb, Hm, P, Gv, Fd, L, St, Ap, Pr⟩ := R
  have hfr : 700 ≤ f ∧ f < 800 := by simp [rcPi] at hf; omega
  have ne : ∀ k, k < 700 ∨ 800 ≤ k → ¬ k = f := fun k hk => by omega
  refine ⟨?_, nb, ?_, fun q hq => ?_, fun g hg => ?_, fun k hk => ?_, fun j hj => ?_, fun q hq k hk => ?_, ?_, fun a ha => ?_⟩
  · obtain ⟨b1, b2, b3, b4, b5, b6, b7⟩ := B
    refine ⟨b1, ?_, ?_, ?_, ?_, ?_, ?_⟩
    · rw [zi_pi, if_neg (fun w => ne 203 (by omega) w.1), sa_au, if_neg (fun w => ne 203 (by omega) w.1)]; exact b2
    · rw [zi_pi, if_neg (fun w => ne 204 (by omega) w.1), sa_au, if_neg (fun w => ne 204 (by omega) w.1)]; exact b3
    · rw [zr_pi]; exact b4
    · rw [zr_pi]; exact b5
    · rw [zr_pi]; exact b6
    · rw [zr_pi]; exact b7
  · obtain ⟨m1, ⟨tr, wy, m2, m3, m4, m5⟩, m6⟩ := Hm
    refine ⟨m1, ⟨tr, wy, ?_, m3, ?_, m5⟩, m6⟩
    · rw [zr_pi]; exact m2
    · rw [zr_pi]; exact m4
  · obtain ⟨p1, p2, p3, p4, p5⟩ := P q hq
    refine ⟨p1, fun k hk => ?_, fun k hk => ?_, ?_, ?_⟩
    · rw [zi_pi, sa_au]
      by_cases hkq : k = f ∧ q = p
      · rw [if_pos ⟨hkq.1, by rw [hkq.2]⟩, if_pos hkq]
      · rw [if_neg (fun w => hkq ⟨w.1, rc_inj0 R0 hq hp w.2⟩), if_neg hkq]; exact p2 k hk
    · rw [zr_pi, sa_au, if_neg (fun w => by simp [rcPi] at hf; simp [rcPr] at hk; omega)]; exact p3 k hk
    · rw [zr_pi, sa_au, if_neg (fun w => by simp [rcPi] at hf; omega)]; exact p4
    · rw [zr_pi]; exact p5
  · obtain ⟨g1, g2, g3, g4, g5, g6⟩ := Gv g hg
    refine ⟨?_, fun k hk => ?_, fun k hk => ?_, ?_, ?_, ?_⟩
    · rw [sa_au, if_neg (fun w => ne 10 (by omega) w.1)]; exact g1
    · have hk6 : 600 ≤ k ∧ k < 700 := by simp [rcGi] at hk; omega
      rw [zi_pi, if_neg (fun w => ne k (by omega) w.1), sa_au, if_neg (fun w => ne k (by omega) w.1)]; exact g2 k hk
    · have hk6 : 600 ≤ k ∧ k < 700 := by simp [rcGr] at hk; omega
      rw [zr_pi, sa_au, if_neg (fun w => ne k (by omega) w.1)]; exact g3 k hk
    · rw [zr_pi]; exact g4
    · rw [zr_pi]; exact g5
    · rw [zr_pi, sa_au, if_neg (fun w => ne 613 (by omega) w.1)]
      refine g6.imp id fun w => ⟨w.1, w.2.1, w.2.2.1, w.2.2.2.1, fun q hq => ?_⟩
      rw [sa_au, if_neg (fun w => ne 20 (by omega) w.1)]; exact w.2.2.2.2 q hq
  · obtain ⟨f1, f2, f3, f4, f5, f6, n, f7, f8, f9⟩ := Fd k hk
    refine ⟨f1, ?_, ?_, ?_, f5, f6, n, f7, ?_, fun i hi => ?_⟩
    · rw [zi_pi, if_neg (fun w => ne 500 (by omega) w.1), sa_au, if_neg (fun w => ne 500 (by omega) w.1)]; exact f2
    · rw [zr_pi]; exact f3
    · rw [zi_pi, if_neg (fun w => ne 502 (by omega) w.1), sa_au, if_neg (fun w => ne 502 (by omega) w.1)]; exact f4
    · rw [sa_au, if_neg (fun w => ne 502 (by omega) w.1)]; exact f8
    · rw [sa_au, if_neg (fun w => ne 501 (by omega) w.1)]
      refine (f9 i hi).imp id fun w => ⟨w.1, w.2.1, ?_⟩
      obtain ⟨r1, r2, r3, r4⟩ := w.2.2
      refine ⟨?_, ?_, r3, fun m hm => ?_⟩
      · rw [show sa (sau σ f p x) 5 (12 * k + i) = sa σ 5 (12 * k + i) by rw [sa_au, if_neg (fun w => ne 5 (by omega) w.1)]]; exact r1
      · rw [sa_au, if_neg (fun w => ne 6 (by omega) w.1)]; exact r2
      · rw [sa_au, if_neg (fun w => ne 8 (by omega) w.1)]
        have e : ∀ y, rcSpot A (zpi h f (A 0 p) x) cb y = rcSpot A h cb y := fun y => by unfold rcSpot; rw [show zr (zpi h f (A 0 p) x) 100 cb = zr h 100 cb by rw [zr_pi], show zr (zpi h f (A 0 p) x) 101 cb = zr h 101 cb by rw [zr_pi]]
        rw [e]; exact r4 m hm
  · obtain ⟨l1, l2, l3, l4, l5, l6, l7, l8⟩ := L j hj
    refine ⟨l1, ?_, ?_, l4, l5, l6, l7, l8⟩
    · rw [zi_pi, if_neg (fun w => ne 302 (by omega) w.1)]; exact l2
    · rw [zr_pi]; exact l3
  · obtain ⟨s1, d, g, s2, s3, s4⟩ := St q hq k hk
    refine ⟨s1, d, g, s2, ?_, ?_⟩
    · rw [zi_pi, if_neg (fun w => ne 800 (by omega) w.1)]; exact s3
    · rw [zr_pi]; exact s4
  · obtain ⟨a1, a2, a3, a4, a5, a6, a7, a8, a9⟩ := Ap
    have rl : ∀ r, rcRowLive (sau σ f p x) r → rcRowLive σ r := by
      intro r hr
      obtain ⟨r1, r2, r3⟩ := hr
      rw [sa_au, if_neg (fun w => ne 502 (by omega) w.1)] at r2
      rw [sa_au, if_neg (fun w => ne 501 (by omega) w.1)] at r3
      exact ⟨r1, r2, r3⟩
    have t9 : ∀ i, sa (sau σ f p x) 613 i = sa σ 613 i := fun i => by rw [sa_au, if_neg (fun w => ne 613 (by omega) w.1)]
    exact ⟨a1, a2, a3, a4, a5, fun i j hi hj => a6 i j (rl i hi) (rl j hj), fun i hi => a7 i (rl i hi), fun i j hi hj h1 h2 => a8 i j hi hj (by rw [← t9]; exact h1) (by rw [← t9]; exact h2), fun i hi h1 => a9 i hi (by rw [← t9]; exact h1)⟩
  · obtain ⟨q1, q2, q3, q4, q5⟩ := Pr a ha
    refine ⟨q1, q2, q3, fun k => ⟨?_, (q4 k).2⟩, q5⟩
    rw [zi_pi, if_neg (fun w : k = f ∧ a = (A 0 p) => rc_nF0 R0 hp (w.2 ▸ ha))]; exact (q4 k).1
/-- a field of a person that holds a person -/
theorem rc_Pr (R : rcAll G F h0 A E h σ cb b) {p f : Nat} {x : Int32} (hp : p < sn σ 2) (hf : f ∈ rcPr) : rcAll G F h0 A E (zpr h f (A 0 p) (rfx (A 0) x)) (sau σ f p x) cb b := by
  have R0 := R
  obtain ⟨B, nb, Hm, P, Gv, Fd, L, St, Ap, Pr⟩ := R
  have hfr : 700 ≤ f ∧ f < 800 := by simp [rcPr] at hf; omega
  have ne : ∀ k, k < 700 ∨ 800 ≤ k → ¬ k = f := fun k hk => by omega
  refine ⟨?_, nb, ?_, fun q hq => ?_, fun g hg => ?_, fun k hk => ?_, fun j hj => ?_, fun q hq k hk => ?_, ?_, fun a ha => ?_⟩
  · obtain ⟨b1, b2, b3, b4, b5, b6, b7⟩ := B
    refine ⟨b1, ?_, ?_, ?_, ?_, ?_, ?_⟩
    · rw [zi_pr, sa_au, if_neg (fun w => ne 203 (by omega) w.1)]; exact b2
    · rw [zi_pr, sa_au, if_neg (fun w => ne 204 (by omega) w.1)]; exact b3
    · rw [zr_pr, if_neg (fun w => ne 200 (by omega) w.1)]; exact b4
    · rw [zr_pr, if_neg (fun w => ne 201 (by omega) w.1)]; exact b5
    · rw [zr_pr, if_neg (fun w => ne 202 (by omega) w.1)]; exact b6
    · rw [zr_pr, if_neg (fun w => ne 205 (by omega) w.1)]; exact b7
  · obtain ⟨m1, ⟨tr, wy, m2, m3, m4, m5⟩, m6⟩ := Hm
    refine ⟨m1, ⟨tr, wy, ?_, m3, ?_, m5⟩, m6⟩
    · rw [zr_pr, if_neg (fun w => ne 100 (by omega) w.1)]; exact m2
    · rw [zr_pr, if_neg (fun w => ne 101 (by omega) w.1)]; exact m4
  · obtain ⟨p1, p2, p3, p4, p5⟩ := P q hq
    refine ⟨p1, fun k hk => ?_, fun k hk => ?_, ?_, ?_⟩
    · rw [zi_pr, sa_au, if_neg (fun w => by simp [rcPr] at hf; simp [rcPi] at hk; omega)]; exact p2 k hk
    · rw [zr_pr, sa_au]
      by_cases hkq : k = f ∧ q = p
      · rw [if_pos ⟨hkq.1, by rw [hkq.2]⟩, if_pos hkq]
      · rw [if_neg (fun w => hkq ⟨w.1, rc_inj0 R0 hq hp w.2⟩), if_neg hkq]; exact p3 k hk
    · rw [zr_pr, if_neg (fun w => by simp [rcPr] at hf; omega), sa_au, if_neg (fun w => by simp [rcPr] at hf; omega)]; exact p4
    · rw [zr_pr, if_neg (fun w => by simp [rcPr] at hf; omega)]; exact p5
  · obtain ⟨g1, g2, g3, g4, g5, g6⟩ := Gv g hg
    refine ⟨?_, fun k hk => ?_, fun k hk => ?_, ?_, ?_, ?_⟩
    · rw [sa_au, if_neg (fun w => ne 10 (by omega) w.1)]; exact g1
    · have hk6 : 600 ≤ k ∧ k < 700 := by simp [rcGi] at hk; omega
      rw [zi_pr, sa_au, if_neg (fun w => ne k (by omega) w.1)]; exact g2 k hk
    · have hk6 : 600 ≤ k ∧ k < 700 := by simp [rcGr] at hk; omega
      rw [zr_pr, if_neg (fun w => ne k (by omega) w.1), sa_au, if_neg (fun w => ne k (by omega) w.1)]; exact g3 k hk
    · rw [zr_pr, if_neg (fun w => ne 611 (by omega) w.1)]; exact g4
    · rw [zr_pr, if_neg (fun w => ne 615 (by omega) w.1)]; exact g5
    · rw [zr_pr, if_neg (fun w => ne 613 (by omega) w.1), sa_au, if_neg (fun w => ne 613 (by omega) w.1)]
      refine g6.imp id fun w => ⟨w.1, w.2.1, w.2.2.1, w.2.2.2.1, fun q hq => ?_⟩
      rw [sa_au, if_neg (fun w => ne 20 (by omega) w.1)]; exact w.2.2.2.2 q hq
  · obtain ⟨f1, f2, f3, f4, f5, f6, n, f7, f8, f9⟩ := Fd k hk
    refine ⟨f1, ?_, ?_, ?_, f5, f6, n, f7, ?_, fun i hi => ?_⟩
    · rw [zi_pr, sa_au, if_neg (fun w => ne 500 (by omega) w.1)]; exact f2
    · rw [zr_pr, if_neg (fun w => ne 501 (by omega) w.1)]; exact f3
    · rw [zi_pr, sa_au, if_neg (fun w => ne 502 (by omega) w.1)]; exact f4
    · rw [sa_au, if_neg (fun w => ne 502 (by omega) w.1)]; exact f8
    · rw [sa_au, if_neg (fun w => ne 501 (by omega) w.1)]
      refine (f9 i hi).imp id fun w => ⟨w.1, w.2.1, ?_⟩
      obtain ⟨r1, r2, r3, r4⟩ := w.2.2
      refine ⟨?_, ?_, r3, fun m hm => ?_⟩
      · rw [show sa (sau σ f p x) 5 (12 * k + i) = sa σ 5 (12 * k + i) by rw [sa_au, if_neg (fun w => ne 5 (by omega) w.1)]]; exact r1
      · rw [sa_au, if_neg (fun w => ne 6 (by omega) w.1)]; exact r2
      · rw [sa_au, if_neg (fun w => ne 8 (by omega) w.1)]
        have e : ∀ y, rcSpot A (zpr h f (A 0 p) (rfx (A 0) x)) cb y = rcSpot A h cb y := fun y => by unfold rcSpot; rw [show zr (zpr h f (A 0 p) (rfx (A 0) x)) 100 cb = zr h 100 cb by rw [zr_pr, if_neg (fun w => ne 100 (by omega) w.1)], show zr (zpr h f (A 0 p) (rfx (A 0) x)) 101 cb = zr h 101 cb by rw [zr_pr, if_neg (fun w => ne 101 (by omega) w.1)]]
        rw [e]; exact r4 m hm
  · obtain ⟨l1, l2, l3, l4, l5, l6, l7, l8⟩ := L j hj
    refine ⟨l1, ?_, ?_, l4, l5, l6, l7, l8⟩
    · rw [zi_pr]; exact l2
    · rw [zr_pr, if_neg (fun w => ne 301 (by omega) w.1)]; exact l3
  · obtain ⟨s1, d, g, s2, s3, s4⟩ := St q hq k hk
    refine ⟨s1, d, g, s2, ?_, ?_⟩
    · rw [zi_pr]; exact s3
    · rw [zr_pr, if_neg (fun w => ne 801 (by omega) w.1)]; exact s4
  · obtain ⟨a1, a2, a3, a4, a5, a6, a7, a8, a9⟩ := Ap
    have rl : ∀ r, rcRowLive (sau σ f p x) r → rcRowLive σ r := by
      intro r hr
      obtain ⟨r1, r2, r3⟩ := hr
      rw [sa_au, if_neg (fun w => ne 502 (by omega) w.1)] at r2
      rw [sa_au, if_neg (fun w => ne 501 (by omega) w.1)] at r3
      exact ⟨r1, r2, r3⟩
    have t9 : ∀ i, sa (sau σ f p x) 613 i = sa σ 613 i := fun i => by rw [sa_au, if_neg (fun w => ne 613 (by omega) w.1)]
    exact ⟨a1, a2, a3, a4, a5, fun i j hi hj => a6 i j (rl i hi) (rl j hj), fun i hi => a7 i (rl i hi), fun i j hi hj h1 h2 => a8 i j hi hj (by rw [← t9]; exact h1) (by rw [← t9]; exact h2), fun i hi h1 => a9 i hi (by rw [← t9]; exact h1)⟩
  · obtain ⟨q1, q2, q3, q4, q5⟩ := Pr a ha
    refine ⟨q1, q2, q3, fun k => ⟨(q4 k).1, ?_⟩, q5⟩
    rw [zr_pr, if_neg (fun w : k = f ∧ a = (A 0 p) => rc_nF0 R0 hp (w.2 ▸ ha))]; exact (q4 k).2
/-- a person's grave -/
theorem rc_Pg (R : rcAll G F h0 A E h σ cb b) {p f : Nat} {x : Int32} (hp : p < sn σ 2) (hf : f = 710) : rcAll G F h0 A E (zpr h f (A 0 p) (rfx (A 1) x)) (sau σ f p x) cb b := by
  have R0 := R
  obtain ⟨B, nb, Hm, P, Gv, Fd, L, St, Ap, Pr⟩ := R
  have hfr : 700 ≤ f ∧ f < 800 := by omega
  have ne : ∀ k, k < 700 ∨ 800 ≤ k → ¬ k = f := fun k hk => by omega
  refine ⟨?_, nb, ?_, fun q hq => ?_, fun g hg => ?_, fun k hk => ?_, fun j hj => ?_, fun q hq k hk => ?_, ?_, fun a ha => ?_⟩
  · obtain ⟨b1, b2, b3, b4, b5, b6, b7⟩ := B
    refine ⟨b1, ?_, ?_, ?_, ?_, ?_, ?_⟩
    · rw [zi_pr, sa_au, if_neg (fun w => ne 203 (by omega) w.1)]; exact b2
    · rw [zi_pr, sa_au, if_neg (fun w => ne 204 (by omega) w.1)]; exact b3
    · rw [zr_pr, if_neg (fun w => ne 200 (by omega) w.1)]; exact b4
    · rw [zr_pr, if_neg (fun w => ne 201 (by omega) w.1)]; exact b5
    · rw [zr_pr, if_neg (fun w => ne 202 (by omega) w.1)]; exact b6
    · rw [zr_pr, if_neg (fun w => ne 205 (by omega) w.1)]; exact b7
  · obtain ⟨m1, ⟨tr, wy, m2, m3, m4, m5⟩, m6⟩ := Hm
    refine ⟨m1, ⟨tr, wy, ?_, m3, ?_, m5⟩, m6⟩
    · rw [zr_pr, if_neg (fun w => ne 100 (by omega) w.1)]; exact m2
    · rw [zr_pr, if_neg (fun w => ne 101 (by omega) w.1)]; exact m4
  · obtain ⟨p1, p2, p3, p4, p5⟩ := P q hq
    refine ⟨p1, fun k hk => ?_, fun k hk => ?_, ?_, ?_⟩
    · rw [zi_pr, sa_au, if_neg (fun w => by simp [rcPi] at hk; omega)]; exact p2 k hk
    · rw [zr_pr, if_neg (fun w => by simp [rcPr] at hk; omega), sa_au, if_neg (fun w => by simp [rcPr] at hk; omega)]; exact p3 k hk
    · rw [zr_pr, sa_au]
      by_cases hkq : 710 = f ∧ q = p
      · rw [if_pos ⟨hkq.1, by rw [hkq.2]⟩, if_pos hkq]
      · rw [if_neg (fun w => hkq ⟨w.1, rc_inj0 R0 hq hp w.2⟩), if_neg hkq]; exact p4
    · rw [zr_pr, if_neg (fun w => by omega)]; exact p5
  · obtain ⟨g1, g2, g3, g4, g5, g6⟩ := Gv g hg
    refine ⟨?_, fun k hk => ?_, fun k hk => ?_, ?_, ?_, ?_⟩
    · rw [sa_au, if_neg (fun w => ne 10 (by omega) w.1)]; exact g1
    · have hk6 : 600 ≤ k ∧ k < 700 := by simp [rcGi] at hk; omega
      rw [zi_pr, sa_au, if_neg (fun w => ne k (by omega) w.1)]; exact g2 k hk
    · have hk6 : 600 ≤ k ∧ k < 700 := by simp [rcGr] at hk; omega
      rw [zr_pr, if_neg (fun w => ne k (by omega) w.1), sa_au, if_neg (fun w => ne k (by omega) w.1)]; exact g3 k hk
    · rw [zr_pr, if_neg (fun w => ne 611 (by omega) w.1)]; exact g4
    · rw [zr_pr, if_neg (fun w => ne 615 (by omega) w.1)]; exact g5
    · rw [zr_pr, if_neg (fun w => ne 613 (by omega) w.1), sa_au, if_neg (fun w => ne 613 (by omega) w.1)]
      refine g6.imp id fun w => ⟨w.1, w.2.1, w.2.2.1, w.2.2.2.1, fun q hq => ?_⟩
      rw [sa_au, if_neg (fun w => ne 20 (by omega) w.1)]; exact w.2.2.2.2 q hq
  · obtain ⟨f1, f2, f3, f4, f5, f6, n, f7, f8, f9⟩ := Fd k hk
    refine ⟨f1, ?_, ?_, ?_, f5, f6, n, f7, ?_, fun i hi => ?_⟩
    · rw [zi_pr, sa_au, if_neg (fun w => ne 500 (by omega) w.1)]; exact f2
    · rw [zr_pr, if_neg (fun w => ne 501 (by omega) w.1)]; exact f3
    · rw [zi_pr, sa_au, if_neg (fun w => ne 502 (by omega) w.1)]; exact f4
    · rw [sa_au, if_neg (fun w => ne 502 (by omega) w.1)]; exact f8
    · rw [sa_au, if_neg (fun w => ne 501 (by omega) w.1)]
      refine (f9 i hi).imp id fun w => ⟨w.1, w.2.1, ?_⟩
      obtain ⟨r1, r2, r3, r4⟩ := w.2.2
      refine ⟨?_, ?_, r3, fun m hm => ?_⟩
      · rw [show sa (sau σ f p x) 5 (12 * k + i) = sa σ 5 (12 * k + i) by rw [sa_au, if_neg (fun w => ne 5 (by omega) w.1)]]; exact r1
      · rw [sa_au, if_neg (fun w => ne 6 (by omega) w.1)]; exact r2
      · rw [sa_au, if_neg (fun w => ne 8 (by omega) w.1)]
        have e : ∀ y, rcSpot A (zpr h f (A 0 p) (rfx (A 1) x)) cb y = rcSpot A h cb y := fun y => by unfold rcSpot; rw [show zr (zpr h f (A 0 p) (rfx (A 1) x)) 100 cb = zr h 100 cb by rw [zr_pr, if_neg (fun w => ne 100 (by omega) w.1)], show zr (zpr h f (A 0 p) (rfx (A 1) x)) 101 cb = zr h 101 cb by rw [zr_pr, if_neg (fun w => ne 101 (by omega) w.1)]]
        rw [e]; exact r4 m hm
  · obtain ⟨l1, l2, l3, l4, l5, l6, l7, l8⟩ := L j hj
    refine ⟨l1, ?_, ?_, l4, l5, l6, l7, l8⟩
    · rw [zi_pr]; exact l2
    · rw [zr_pr, if_neg (fun w => ne 301 (by omega) w.1)]; exact l3
  · obtain ⟨s1, d, g, s2, s3, s4⟩ := St q hq k hk
    refine ⟨s1, d, g, s2, ?_, ?_⟩
    · rw [zi_pr]; exact s3
    · rw [zr_pr, if_neg (fun w => ne 801 (by omega) w.1)]; exact s4
  · obtain ⟨a1, a2, a3, a4, a5, a6, a7, a8, a9⟩ := Ap
    have rl : ∀ r, rcRowLive (sau σ f p x) r → rcRowLive σ r := by
      intro r hr
      obtain ⟨r1, r2, r3⟩ := hr
      rw [sa_au, if_neg (fun w => ne 502 (by omega) w.1)] at r2
      rw [sa_au, if_neg (fun w => ne 501 (by omega) w.1)] at r3
      exact ⟨r1, r2, r3⟩
    have t9 : ∀ i, sa (sau σ f p x) 613 i = sa σ 613 i := fun i => by rw [sa_au, if_neg (fun w => ne 613 (by omega) w.1)]
    exact ⟨a1, a2, a3, a4, a5, fun i j hi hj => a6 i j (rl i hi) (rl j hj), fun i hi => a7 i (rl i hi), fun i j hi hj h1 h2 => a8 i j hi hj (by rw [← t9]; exact h1) (by rw [← t9]; exact h2), fun i hi h1 => a9 i hi (by rw [← t9]; exact h1)⟩
  · obtain ⟨q1, q2, q3, q4, q5⟩ := Pr a ha
    refine ⟨q1, q2, q3, fun k => ⟨(q4 k).1, ?_⟩, q5⟩
    rw [zr_pr, if_neg (fun w : k = f ∧ a = (A 0 p) => rc_nF0 R0 hp (w.2 ▸ ha))]; exact (q4 k).2
/-- an int field of a grave -/
theorem rc_Gi (R : rcAll G F h0 A E h σ cb b) {p f : Nat} {x : Int32} (hp : p < sn σ 1) (hf : f ∈ rcGi) : rcAll G F h0 A E (zpi h f (A 1 p) x) (sau σ f p x) cb b := by
  have R0 := R
  obtain ⟨B, nb, Hm, P, Gv, Fd, L, St, Ap, Pr⟩ := R
  have hfr : 600 ≤ f ∧ f < 700 := by simp [rcGi] at hf; omega
  have ne : ∀ k, k < 600 ∨ 700 ≤ k → ¬ k = f := fun k hk => by omega
  refine ⟨?_, nb, ?_, fun q hq => ?_, fun g hg => ?_, fun k hk => ?_, fun j hj => ?_, fun q hq k hk => ?_, ?_, fun a ha => ?_⟩
  · obtain ⟨b1, b2, b3, b4, b5, b6, b7⟩ := B
    refine ⟨b1, ?_, ?_, ?_, ?_, ?_, ?_⟩
    · rw [zi_pi, if_neg (fun w => ne 203 (by omega) w.1), sa_au, if_neg (fun w => ne 203 (by omega) w.1)]; exact b2
    · rw [zi_pi, if_neg (fun w => ne 204 (by omega) w.1), sa_au, if_neg (fun w => ne 204 (by omega) w.1)]; exact b3
    · rw [zr_pi]; exact b4
    · rw [zr_pi]; exact b5
    · rw [zr_pi]; exact b6
    · rw [zr_pi]; exact b7
  · obtain ⟨m1, ⟨tr, wy, m2, m3, m4, m5⟩, m6⟩ := Hm
    refine ⟨m1, ⟨tr, wy, ?_, m3, ?_, m5⟩, m6⟩
    · rw [zr_pi]; exact m2
    · rw [zr_pi]; exact m4
  · obtain ⟨p1, p2, p3, p4, p5⟩ := P q hq
    refine ⟨p1, fun k hk => ?_, fun k hk => ?_, ?_, ?_⟩
    · have hk7 : 700 ≤ k ∧ k < 800 := by simp [rcPi] at hk; omega
      rw [zi_pi, if_neg (fun w => ne k (by omega) w.1), sa_au, if_neg (fun w => ne k (by omega) w.1)]; exact p2 k hk
    · have hk7 : 700 ≤ k ∧ k < 800 := by simp [rcPr] at hk; omega
      rw [zr_pi, sa_au, if_neg (fun w => ne k (by omega) w.1)]; exact p3 k hk
    · rw [zr_pi, sa_au, if_neg (fun w => ne 710 (by omega) w.1)]; exact p4
    · rw [zr_pi]; exact p5
  · obtain ⟨g1, g2, g3, g4, g5, g6⟩ := Gv g hg
    refine ⟨?_, fun k hk => ?_, fun k hk => ?_, ?_, ?_, ?_⟩
    · rw [sa_au, if_neg (fun w => ne 10 (by omega) w.1)]; exact g1
    · rw [zi_pi, sa_au]
      by_cases hkq : k = f ∧ g = p
      · rw [if_pos ⟨hkq.1, by rw [hkq.2]⟩, if_pos hkq]
      · rw [if_neg (fun w => hkq ⟨w.1, rc_inj1 R0 hg hp w.2⟩), if_neg hkq]; exact g2 k hk
    · rw [zr_pi, sa_au, if_neg (fun w => by simp [rcGi] at hf; simp [rcGr] at hk; omega)]; exact g3 k hk
    · rw [zr_pi]; exact g4
    · rw [zr_pi]; exact g5
    · rw [zr_pi, sa_au, if_neg (fun w => by simp [rcGi] at hf; omega)]
      refine g6.imp id fun w => ⟨w.1, w.2.1, w.2.2.1, w.2.2.2.1, fun q hq => ?_⟩
      rw [sa_au, if_neg (fun w => ne 20 (by omega) w.1)]; exact w.2.2.2.2 q hq
  · obtain ⟨f1, f2, f3, f4, f5, f6, n, f7, f8, f9⟩ := Fd k hk
    refine ⟨f1, ?_, ?_, ?_, f5, f6, n, f7, ?_, fun i hi => ?_⟩
    · rw [zi_pi, if_neg (fun w => ne 500 (by omega) w.1), sa_au, if_neg (fun w => ne 500 (by omega) w.1)]; exact f2
    · rw [zr_pi]; exact f3
    · rw [zi_pi, if_neg (fun w => ne 502 (by omega) w.1), sa_au, if_neg (fun w => ne 502 (by omega) w.1)]; exact f4
    · rw [sa_au, if_neg (fun w => ne 502 (by omega) w.1)]; exact f8
    · rw [sa_au, if_neg (fun w => ne 501 (by omega) w.1)]
      refine (f9 i hi).imp id fun w => ⟨w.1, w.2.1, ?_⟩
      obtain ⟨r1, r2, r3, r4⟩ := w.2.2
      refine ⟨?_, ?_, r3, fun m hm => ?_⟩
      · rw [show sa (sau σ f p x) 5 (12 * k + i) = sa σ 5 (12 * k + i) by rw [sa_au, if_neg (fun w => ne 5 (by omega) w.1)]]; exact r1
      · rw [sa_au, if_neg (fun w => ne 6 (by omega) w.1)]; exact r2
      · rw [sa_au, if_neg (fun w => ne 8 (by omega) w.1)]
        have e : ∀ y, rcSpot A (zpi h f (A 1 p) x) cb y = rcSpot A h cb y := fun y => by unfold rcSpot; rw [show zr (zpi h f (A 1 p) x) 100 cb = zr h 100 cb by rw [zr_pi], show zr (zpi h f (A 1 p) x) 101 cb = zr h 101 cb by rw [zr_pi]]
        rw [e]; exact r4 m hm
  · obtain ⟨l1, l2, l3, l4, l5, l6, l7, l8⟩ := L j hj
    refine ⟨l1, ?_, ?_, l4, l5, l6, l7, l8⟩
    · rw [zi_pi, if_neg (fun w => ne 302 (by omega) w.1)]; exact l2
    · rw [zr_pi]; exact l3
  · obtain ⟨s1, d, g, s2, s3, s4⟩ := St q hq k hk
    refine ⟨s1, d, g, s2, ?_, ?_⟩
    · rw [zi_pi, if_neg (fun w => ne 800 (by omega) w.1)]; exact s3
    · rw [zr_pi]; exact s4
  · obtain ⟨a1, a2, a3, a4, a5, a6, a7, a8, a9⟩ := Ap
    have rl : ∀ r, rcRowLive (sau σ f p x) r → rcRowLive σ r := by
      intro r hr
      obtain ⟨r1, r2, r3⟩ := hr
      rw [sa_au, if_neg (fun w => ne 502 (by omega) w.1)] at r2
      rw [sa_au, if_neg (fun w => ne 501 (by omega) w.1)] at r3
      exact ⟨r1, r2, r3⟩
    have t9 : ∀ i, sa (sau σ f p x) 613 i = sa σ 613 i := fun i => by rw [sa_au, if_neg (fun w => by simp [rcGi] at hf; omega)]
    exact ⟨a1, a2, a3, a4, a5, fun i j hi hj => a6 i j (rl i hi) (rl j hj), fun i hi => a7 i (rl i hi), fun i j hi hj h1 h2 => a8 i j hi hj (by rw [← t9]; exact h1) (by rw [← t9]; exact h2), fun i hi h1 => a9 i hi (by rw [← t9]; exact h1)⟩
  · obtain ⟨q1, q2, q3, q4, q5⟩ := Pr a ha
    refine ⟨q1, q2, q3, fun k => ⟨?_, (q4 k).2⟩, q5⟩
    rw [zi_pi, if_neg (fun w : k = f ∧ a = (A 1 p) => rc_nF1 R0 hp (w.2 ▸ ha))]; exact (q4 k).1
/-- a field of a grave that holds a person -/
theorem rc_Gr (R : rcAll G F h0 A E h σ cb b) {p f : Nat} {x : Int32} (hp : p < sn σ 1) (hf : f ∈ rcGr) : rcAll G F h0 A E (zpr h f (A 1 p) (rfx (A 0) x)) (sau σ f p x) cb b := by
  have R0 := R
  obtain ⟨B, nb, Hm, P, Gv, Fd, L, St, Ap, Pr⟩ := R
  have hfr : 600 ≤ f ∧ f < 700 := by simp [rcGr] at hf; omega
  have ne : ∀ k, k < 600 ∨ 700 ≤ k → ¬ k = f := fun k hk => by omega
  refine ⟨?_, nb, ?_, fun q hq => ?_, fun g hg => ?_, fun k hk => ?_, fun j hj => ?_, fun q hq k hk => ?_, ?_, fun a ha => ?_⟩
  · obtain ⟨b1, b2, b3, b4, b5, b6, b7⟩ := B
    refine ⟨b1, ?_, ?_, ?_, ?_, ?_, ?_⟩
    · rw [zi_pr, sa_au, if_neg (fun w => ne 203 (by omega) w.1)]; exact b2
    · rw [zi_pr, sa_au, if_neg (fun w => ne 204 (by omega) w.1)]; exact b3
    · rw [zr_pr, if_neg (fun w => ne 200 (by omega) w.1)]; exact b4
    · rw [zr_pr, if_neg (fun w => ne 201 (by omega) w.1)]; exact b5
    · rw [zr_pr, if_neg (fun w => ne 202 (by omega) w.1)]; exact b6
    · rw [zr_pr, if_neg (fun w => ne 205 (by omega) w.1)]; exact b7
  · obtain ⟨m1, ⟨tr, wy, m2, m3, m4, m5⟩, m6⟩ := Hm
    refine ⟨m1, ⟨tr, wy, ?_, m3, ?_, m5⟩, m6⟩
    · rw [zr_pr, if_neg (fun w => ne 100 (by omega) w.1)]; exact m2
    · rw [zr_pr, if_neg (fun w => ne 101 (by omega) w.1)]; exact m4
  · obtain ⟨p1, p2, p3, p4, p5⟩ := P q hq
    refine ⟨p1, fun k hk => ?_, fun k hk => ?_, ?_, ?_⟩
    · have hk7 : 700 ≤ k ∧ k < 800 := by simp [rcPi] at hk; omega
      rw [zi_pr, sa_au, if_neg (fun w => ne k (by omega) w.1)]; exact p2 k hk
    · have hk7 : 700 ≤ k ∧ k < 800 := by simp [rcPr] at hk; omega
      rw [zr_pr, if_neg (fun w => ne k (by omega) w.1), sa_au, if_neg (fun w => ne k (by omega) w.1)]; exact p3 k hk
    · rw [zr_pr, if_neg (fun w => ne 710 (by omega) w.1), sa_au, if_neg (fun w => ne 710 (by omega) w.1)]; exact p4
    · rw [zr_pr, if_neg (fun w => ne 713 (by omega) w.1)]; exact p5
  · obtain ⟨g1, g2, g3, g4, g5, g6⟩ := Gv g hg
    refine ⟨?_, fun k hk => ?_, fun k hk => ?_, ?_, ?_, ?_⟩
    · rw [sa_au, if_neg (fun w => ne 10 (by omega) w.1)]; exact g1
    · rw [zi_pr, sa_au, if_neg (fun w => by simp [rcGr] at hf; simp [rcGi] at hk; omega)]; exact g2 k hk
    · rw [zr_pr, sa_au]
      by_cases hkq : k = f ∧ g = p
      · rw [if_pos ⟨hkq.1, by rw [hkq.2]⟩, if_pos hkq]
      · rw [if_neg (fun w => hkq ⟨w.1, rc_inj1 R0 hg hp w.2⟩), if_neg hkq]; exact g3 k hk
    · rw [zr_pr, if_neg (fun w => by simp [rcGr] at hf; omega)]; exact g4
    · rw [zr_pr, if_neg (fun w => by simp [rcGr] at hf; omega)]; exact g5
    · rw [zr_pr, if_neg (fun w => by simp [rcGr] at hf; omega), sa_au, if_neg (fun w => by simp [rcGr] at hf; omega)]
      refine g6.imp id fun w => ⟨w.1, w.2.1, w.2.2.1, w.2.2.2.1, fun q hq => ?_⟩
      rw [sa_au, if_neg (fun w => ne 20 (by omega) w.1)]; exact w.2.2.2.2 q hq
  · obtain ⟨f1, f2, f3, f4, f5, f6, n, f7, f8, f9⟩ := Fd k hk
    refine ⟨f1, ?_, ?_, ?_, f5, f6, n, f7, ?_, fun i hi => ?_⟩
    · rw [zi_pr, sa_au, if_neg (fun w => ne 500 (by omega) w.1)]; exact f2
    · rw [zr_pr, if_neg (fun w => ne 501 (by omega) w.1)]; exact f3
    · rw [zi_pr, sa_au, if_neg (fun w => ne 502 (by omega) w.1)]; exact f4
    · rw [sa_au, if_neg (fun w => ne 502 (by omega) w.1)]; exact f8
    · rw [sa_au, if_neg (fun w => ne 501 (by omega) w.1)]
      refine (f9 i hi).imp id fun w => ⟨w.1, w.2.1, ?_⟩
      obtain ⟨r1, r2, r3, r4⟩ := w.2.2
      refine ⟨?_, ?_, r3, fun m hm => ?_⟩
      · rw [show sa (sau σ f p x) 5 (12 * k + i) = sa σ 5 (12 * k + i) by rw [sa_au, if_neg (fun w => ne 5 (by omega) w.1)]]; exact r1
      · rw [sa_au, if_neg (fun w => ne 6 (by omega) w.1)]; exact r2
      · rw [sa_au, if_neg (fun w => ne 8 (by omega) w.1)]
        have e : ∀ y, rcSpot A (zpr h f (A 1 p) (rfx (A 0) x)) cb y = rcSpot A h cb y := fun y => by unfold rcSpot; rw [show zr (zpr h f (A 1 p) (rfx (A 0) x)) 100 cb = zr h 100 cb by rw [zr_pr, if_neg (fun w => ne 100 (by omega) w.1)], show zr (zpr h f (A 1 p) (rfx (A 0) x)) 101 cb = zr h 101 cb by rw [zr_pr, if_neg (fun w => ne 101 (by omega) w.1)]]
        rw [e]; exact r4 m hm
  · obtain ⟨l1, l2, l3, l4, l5, l6, l7, l8⟩ := L j hj
    refine ⟨l1, ?_, ?_, l4, l5, l6, l7, l8⟩
    · rw [zi_pr]; exact l2
    · rw [zr_pr, if_neg (fun w => ne 301 (by omega) w.1)]; exact l3
  · obtain ⟨s1, d, g, s2, s3, s4⟩ := St q hq k hk
    refine ⟨s1, d, g, s2, ?_, ?_⟩
    · rw [zi_pr]; exact s3
    · rw [zr_pr, if_neg (fun w => ne 801 (by omega) w.1)]; exact s4
  · obtain ⟨a1, a2, a3, a4, a5, a6, a7, a8, a9⟩ := Ap
    have rl : ∀ r, rcRowLive (sau σ f p x) r → rcRowLive σ r := by
      intro r hr
      obtain ⟨r1, r2, r3⟩ := hr
      rw [sa_au, if_neg (fun w => ne 502 (by omega) w.1)] at r2
      rw [sa_au, if_neg (fun w => ne 501 (by omega) w.1)] at r3
      exact ⟨r1, r2, r3⟩
    have t9 : ∀ i, sa (sau σ f p x) 613 i = sa σ 613 i := fun i => by rw [sa_au, if_neg (fun w => by simp [rcGr] at hf; omega)]
    exact ⟨a1, a2, a3, a4, a5, fun i j hi hj => a6 i j (rl i hi) (rl j hj), fun i hi => a7 i (rl i hi), fun i j hi hj h1 h2 => a8 i j hi hj (by rw [← t9]; exact h1) (by rw [← t9]; exact h2), fun i hi h1 => a9 i hi (by rw [← t9]; exact h1)⟩
  · obtain ⟨q1, q2, q3, q4, q5⟩ := Pr a ha
    refine ⟨q1, q2, q3, fun k => ⟨(q4 k).1, ?_⟩, q5⟩
    rw [zr_pr, if_neg (fun w : k = f ∧ a = (A 1 p) => rc_nF1 R0 hp (w.2 ▸ ha))]; exact (q4 k).2
/-- an int field of the book -/
theorem rc_Bi (R : rcAll G F h0 A E h σ cb b) {f : Nat} {x : Int32} (hf : f ∈ [203, 204]) : rcAll G F h0 A E (zpi h f b x) (sau σ f 0 x) cb b := by
  have R0 := R
  obtain ⟨B, nb, Hm, P, Gv, Fd, L, St, Ap, Pr⟩ := R
  have hfr : 200 ≤ f ∧ f < 300 := by simp at hf; omega
  have ne : ∀ k, k < 200 ∨ 300 ≤ k → ¬ k = f := fun k hk => by omega
  refine ⟨?_, nb, ?_, fun q hq => ?_, fun g hg => ?_, fun k hk => ?_, fun j hj => ?_, fun q hq k hk => ?_, ?_, fun a ha => ?_⟩
  · obtain ⟨b1, b2, b3, b4, b5, b6, b7⟩ := B
    refine ⟨b1, ?_, ?_, b4, b5, b6, b7⟩
    · rw [zi_pi, sa_au]
      by_cases hk : 203 = f
      · rw [if_pos ⟨hk, rfl⟩, if_pos ⟨hk, rfl⟩]
      · rw [if_neg (fun w => hk w.1), if_neg (fun w => hk w.1)]; exact b2
    · rw [zi_pi, sa_au]
      by_cases hk : 204 = f
      · rw [if_pos ⟨hk, rfl⟩, if_pos ⟨hk, rfl⟩]
      · rw [if_neg (fun w => hk w.1), if_neg (fun w => hk w.1)]; exact b3
  · obtain ⟨m1, ⟨tr, wy, m2, m3, m4, m5⟩, m6⟩ := Hm
    refine ⟨m1, ⟨tr, wy, ?_, m3, ?_, m5⟩, m6⟩
    · rw [zr_pi]; exact m2
    · rw [zr_pi]; exact m4
  · obtain ⟨p1, p2, p3, p4, p5⟩ := P q hq
    refine ⟨p1, fun k hk => ?_, fun k hk => ?_, ?_, ?_⟩
    · have hk7 : 700 ≤ k ∧ k < 800 := by simp [rcPi] at hk; omega
      rw [zi_pi, if_neg (fun w => ne k (by omega) w.1), sa_au, if_neg (fun w => ne k (by omega) w.1)]; exact p2 k hk
    · have hk7 : 700 ≤ k ∧ k < 800 := by simp [rcPr] at hk; omega
      rw [zr_pi, sa_au, if_neg (fun w => ne k (by omega) w.1)]; exact p3 k hk
    · rw [zr_pi, sa_au, if_neg (fun w => ne 710 (by omega) w.1)]; exact p4
    · rw [zr_pi]; exact p5
  · obtain ⟨g1, g2, g3, g4, g5, g6⟩ := Gv g hg
    refine ⟨?_, fun k hk => ?_, fun k hk => ?_, ?_, ?_, ?_⟩
    · rw [sa_au, if_neg (fun w => ne 10 (by omega) w.1)]; exact g1
    · have hk6 : 600 ≤ k ∧ k < 700 := by simp [rcGi] at hk; omega
      rw [zi_pi, if_neg (fun w => ne k (by omega) w.1), sa_au, if_neg (fun w => ne k (by omega) w.1)]; exact g2 k hk
    · have hk6 : 600 ≤ k ∧ k < 700 := by simp [rcGr] at hk; omega
      rw [zr_pi, sa_au, if_neg (fun w => ne k (by omega) w.1)]; exact g3 k hk
    · rw [zr_pi]; exact g4
    · rw [zr_pi]; exact g5
    · rw [zr_pi, sa_au, if_neg (fun w => ne 613 (by omega) w.1)]
      refine g6.imp id fun w => ⟨w.1, w.2.1, w.2.2.1, w.2.2.2.1, fun q hq => ?_⟩
      rw [sa_au, if_neg (fun w => ne 20 (by omega) w.1)]; exact w.2.2.2.2 q hq
  · obtain ⟨f1, f2, f3, f4, f5, f6, n, f7, f8, f9⟩ := Fd k hk
    refine ⟨f1, ?_, ?_, ?_, f5, f6, n, f7, ?_, fun i hi => ?_⟩
    · rw [zi_pi, if_neg (fun w => ne 500 (by omega) w.1), sa_au, if_neg (fun w => ne 500 (by omega) w.1)]; exact f2
    · rw [zr_pi]; exact f3
    · rw [zi_pi, if_neg (fun w => ne 502 (by omega) w.1), sa_au, if_neg (fun w => ne 502 (by omega) w.1)]; exact f4
    · rw [sa_au, if_neg (fun w => ne 502 (by omega) w.1)]; exact f8
    · rw [sa_au, if_neg (fun w => ne 501 (by omega) w.1)]
      refine (f9 i hi).imp id fun w => ⟨w.1, w.2.1, ?_⟩
      obtain ⟨r1, r2, r3, r4⟩ := w.2.2
      refine ⟨?_, ?_, r3, fun m hm => ?_⟩
      · rw [show sa (sau σ f 0 x) 5 (12 * k + i) = sa σ 5 (12 * k + i) by rw [sa_au, if_neg (fun w => ne 5 (by omega) w.1)]]; exact r1
      · rw [sa_au, if_neg (fun w => ne 6 (by omega) w.1)]; exact r2
      · rw [sa_au, if_neg (fun w => ne 8 (by omega) w.1)]
        have e : ∀ y, rcSpot A (zpi h f b x) cb y = rcSpot A h cb y := fun y => by unfold rcSpot; rw [show zr (zpi h f b x) 100 cb = zr h 100 cb by rw [zr_pi], show zr (zpi h f b x) 101 cb = zr h 101 cb by rw [zr_pi]]
        rw [e]; exact r4 m hm
  · obtain ⟨l1, l2, l3, l4, l5, l6, l7, l8⟩ := L j hj
    refine ⟨l1, ?_, ?_, l4, l5, l6, l7, l8⟩
    · rw [zi_pi, if_neg (fun w => ne 302 (by omega) w.1)]; exact l2
    · rw [zr_pi]; exact l3
  · obtain ⟨s1, d, g, s2, s3, s4⟩ := St q hq k hk
    refine ⟨s1, d, g, s2, ?_, ?_⟩
    · rw [zi_pi, if_neg (fun w => ne 800 (by omega) w.1)]; exact s3
    · rw [zr_pi]; exact s4
  · obtain ⟨a1, a2, a3, a4, a5, a6, a7, a8, a9⟩ := Ap
    have rl : ∀ r, rcRowLive (sau σ f 0 x) r → rcRowLive σ r := by
      intro r hr
      obtain ⟨r1, r2, r3⟩ := hr
      rw [sa_au, if_neg (fun w => ne 502 (by omega) w.1)] at r2
      rw [sa_au, if_neg (fun w => ne 501 (by omega) w.1)] at r3
      exact ⟨r1, r2, r3⟩
    have t9 : ∀ i, sa (sau σ f 0 x) 613 i = sa σ 613 i := fun i => by rw [sa_au, if_neg (fun w => ne 613 (by omega) w.1)]
    exact ⟨a1, a2, a3, a4, a5, fun i j hi hj => a6 i j (rl i hi) (rl j hj), fun i hi => a7 i (rl i hi), fun i j hi hj h1 h2 => a8 i j hi hj (by rw [← t9]; exact h1) (by rw [← t9]; exact h2), fun i hi h1 => a9 i hi (by rw [← t9]; exact h1)⟩
  · obtain ⟨q1, q2, q3, q4, q5⟩ := Pr a ha
    refine ⟨q1, q2, q3, fun k => ⟨?_, (q4 k).2⟩, q5⟩
    rw [zi_pi, if_neg (fun w : k = f ∧ a = b => nb (w.2 ▸ ha))]; exact (q4 k).1
/-- nobody told any more -/
theorem rc_T0 (R : rcAll G F h0 A E h σ cb b) {p f : Nat} (hp : p < sn σ 1) (hf : f = 613) : rcAll G F h0 A E (zpr h f (A 1 p) none) (sau σ f p (-1)) cb b := by
  have R0 := R
  obtain ⟨B, nb, Hm, P, Gv, Fd, L, St, Ap, Pr⟩ := R
  have hfr : 600 ≤ f ∧ f < 700 := by omega
  have ne : ∀ k, k < 600 ∨ 700 ≤ k → ¬ k = f := fun k hk => by omega
  refine ⟨?_, nb, ?_, fun q hq => ?_, fun g hg => ?_, fun k hk => ?_, fun j hj => ?_, fun q hq k hk => ?_, ?_, fun a ha => ?_⟩
  · obtain ⟨b1, b2, b3, b4, b5, b6, b7⟩ := B
    refine ⟨b1, ?_, ?_, ?_, ?_, ?_, ?_⟩
    · rw [zi_pr, sa_au, if_neg (fun w => ne 203 (by omega) w.1)]; exact b2
    · rw [zi_pr, sa_au, if_neg (fun w => ne 204 (by omega) w.1)]; exact b3
    · rw [zr_pr, if_neg (fun w => ne 200 (by omega) w.1)]; exact b4
    · rw [zr_pr, if_neg (fun w => ne 201 (by omega) w.1)]; exact b5
    · rw [zr_pr, if_neg (fun w => ne 202 (by omega) w.1)]; exact b6
    · rw [zr_pr, if_neg (fun w => ne 205 (by omega) w.1)]; exact b7
  · obtain ⟨m1, ⟨tr, wy, m2, m3, m4, m5⟩, m6⟩ := Hm
    refine ⟨m1, ⟨tr, wy, ?_, m3, ?_, m5⟩, m6⟩
    · rw [zr_pr, if_neg (fun w => ne 100 (by omega) w.1)]; exact m2
    · rw [zr_pr, if_neg (fun w => ne 101 (by omega) w.1)]; exact m4
  · obtain ⟨p1, p2, p3, p4, p5⟩ := P q hq
    refine ⟨p1, fun k hk => ?_, fun k hk => ?_, ?_, ?_⟩
    · have hk7 : 700 ≤ k ∧ k < 800 := by simp [rcPi] at hk; omega
      rw [zi_pr, sa_au, if_neg (fun w => ne k (by omega) w.1)]; exact p2 k hk
    · have hk7 : 700 ≤ k ∧ k < 800 := by simp [rcPr] at hk; omega
      rw [zr_pr, if_neg (fun w => ne k (by omega) w.1), sa_au, if_neg (fun w => ne k (by omega) w.1)]; exact p3 k hk
    · rw [zr_pr, if_neg (fun w => ne 710 (by omega) w.1), sa_au, if_neg (fun w => ne 710 (by omega) w.1)]; exact p4
    · rw [zr_pr, if_neg (fun w => ne 713 (by omega) w.1)]; exact p5
  · obtain ⟨g1, g2, g3, g4, g5, g6⟩ := Gv g hg
    refine ⟨?_, fun k hk => ?_, fun k hk => ?_, ?_, ?_, ?_⟩
    · rw [sa_au, if_neg (fun w => ne 10 (by omega) w.1)]; exact g1
    · rw [zi_pr, sa_au, if_neg (fun w => by simp [rcGi] at hk; omega)]; exact g2 k hk
    · rw [zr_pr, if_neg (fun w => by simp [rcGr] at hk; omega), sa_au, if_neg (fun w => by simp [rcGr] at hk; omega)]; exact g3 k hk
    · rw [zr_pr, if_neg (fun w => by omega)]; exact g4
    · rw [zr_pr, if_neg (fun w => by omega)]; exact g5
    · rw [zr_pr, sa_au]
      by_cases hkq : g = p
      · rw [if_pos ⟨hf.symm, by rw [hkq]⟩, if_pos ⟨hf.symm, hkq⟩]; exact Or.inl ⟨rfl, rfl⟩
      · rw [if_neg (fun w => hkq (rc_inj1 R0 hg hp w.2)), if_neg (fun w => hkq w.2)]
        refine g6.imp id fun w => ⟨w.1, w.2.1, w.2.2.1, w.2.2.2.1, fun q hq => ?_⟩
        rw [sa_au, if_neg (fun w => ne 20 (by omega) w.1)]; exact w.2.2.2.2 q hq
  · obtain ⟨f1, f2, f3, f4, f5, f6, n, f7, f8, f9⟩ := Fd k hk
    refine ⟨f1, ?_, ?_, ?_, f5, f6, n, f7, ?_, fun i hi => ?_⟩
    · rw [zi_pr, sa_au, if_neg (fun w => ne 500 (by omega) w.1)]; exact f2
    · rw [zr_pr, if_neg (fun w => ne 501 (by omega) w.1)]; exact f3
    · rw [zi_pr, sa_au, if_neg (fun w => ne 502 (by omega) w.1)]; exact f4
    · rw [sa_au, if_neg (fun w => ne 502 (by omega) w.1)]; exact f8
    · rw [sa_au, if_neg (fun w => ne 501 (by omega) w.1)]
      refine (f9 i hi).imp id fun w => ⟨w.1, w.2.1, ?_⟩
      obtain ⟨r1, r2, r3, r4⟩ := w.2.2
      refine ⟨?_, ?_, r3, fun m hm => ?_⟩
      · rw [show sa (sau σ f p (-1)) 5 (12 * k + i) = sa σ 5 (12 * k + i) by rw [sa_au, if_neg (fun w => ne 5 (by omega) w.1)]]; exact r1
      · rw [sa_au, if_neg (fun w => ne 6 (by omega) w.1)]; exact r2
      · rw [sa_au, if_neg (fun w => ne 8 (by omega) w.1)]
        have e : ∀ y, rcSpot A (zpr h f (A 1 p) none) cb y = rcSpot A h cb y := fun y => by unfold rcSpot; rw [show zr (zpr h f (A 1 p) none) 100 cb = zr h 100 cb by rw [zr_pr, if_neg (fun w => ne 100 (by omega) w.1)], show zr (zpr h f (A 1 p) none) 101 cb = zr h 101 cb by rw [zr_pr, if_neg (fun w => ne 101 (by omega) w.1)]]
        rw [e]; exact r4 m hm
  · obtain ⟨l1, l2, l3, l4, l5, l6, l7, l8⟩ := L j hj
    refine ⟨l1, ?_, ?_, l4, l5, l6, l7, l8⟩
    · rw [zi_pr]; exact l2
    · rw [zr_pr, if_neg (fun w => ne 301 (by omega) w.1)]; exact l3
  · obtain ⟨s1, d, g, s2, s3, s4⟩ := St q hq k hk
    refine ⟨s1, d, g, s2, ?_, ?_⟩
    · rw [zi_pr]; exact s3
    · rw [zr_pr, if_neg (fun w => ne 801 (by omega) w.1)]; exact s4
  · obtain ⟨a1, a2, a3, a4, a5, a6, a7, a8, a9⟩ := Ap
    have rl : ∀ r, rcRowLive (sau σ f p (-1)) r → rcRowLive σ r := by
      intro r hr
      obtain ⟨r1, r2, r3⟩ := hr
      rw [sa_au, if_neg (fun w => ne 502 (by omega) w.1)] at r2
      rw [sa_au, if_neg (fun w => ne 501 (by omega) w.1)] at r3
      exact ⟨r1, r2, r3⟩
    have t9 : ∀ i, ¬ sa (sau σ f p (-1)) 613 i = -1 → ¬ sa σ 613 i = -1 := by
      intro i hi hn
      rw [sa_au] at hi
      by_cases hq : 613 = f ∧ i = p
      · rw [if_pos hq] at hi; exact hi rfl
      · rw [if_neg hq] at hi; exact hi hn
    exact ⟨a1, a2, a3, a4, a5, fun i j hi hj => a6 i j (rl i hi) (rl j hj), fun i hi => a7 i (rl i hi), fun i j hi hj h1 h2 => a8 i j hi hj (t9 i h1) (t9 j h2), fun i hi h1 => a9 i hi (t9 i h1)⟩
  · obtain ⟨q1, q2, q3, q4, q5⟩ := Pr a ha
    refine ⟨q1, q2, q3, fun k => ⟨(q4 k).1, ?_⟩, q5⟩
    rw [zr_pr, if_neg (fun w : k = f ∧ a = (A 1 p) => rc_nF1 R0 hp (w.2 ▸ ha))]; exact (q4 k).2
end ZST
