/-! LIST OPERATIONS on the picture of a book. -/
set_option maxRecDepth 100000
section ZLS
variable {G : Nat × Nat × Nat} {F : Nat → Prop} {h0 h h' : ZH} {A : ZA} {E : Nat → Nat} {σ : ZS} {cb b : Nat}
theorem rcPers.kp (k : zK h h') {p : Nat} (q : rcPers A h σ p) : rcPers A h' σ p := by
  obtain ⟨q1, q2, q3, q4, q5⟩ := q
  obtain ⟨k1, k2, k3, k4, k5⟩ := k (A 0 p) (by omega)
  refine ⟨k1.trans q1, fun f hf => ?_, fun f hf => ?_, (k3 710 (by omega)).2.trans q4, (k3 713 (by omega)).2.trans q5⟩
  · exact (k3 f (by simp [rcPi] at hf; omega)).1.trans (q2 f hf)
  · exact (k3 f (by simp [rcPr] at hf; omega)).2.trans (q3 f hf)
theorem rcKind_pos (x : Int32) : rcKind x ≠ 0 ∧ 8 ≤ rcKind x ∧ rcKind x ≤ 13 := by
  unfold rcKind
  repeat' split
  all_goals omega
theorem rcGrave.kp (k : zK h h') {g : Nat} (q : rcGrave A h σ g) : rcGrave A h' σ g := by
  obtain ⟨q1, q2, q3, q4, q5, q6⟩ := q
  obtain ⟨k1, k2, k3, k4, k5⟩ := k (A 1 g) (by rw [q1]; exact (rcKind_pos _).1)
  refine ⟨k1.trans q1, fun f hf => ?_, fun f hf => ?_, (k3 611 (by omega)).2.trans q4, (k3 615 (by omega)).2.trans q5, ?_⟩
  · exact (k3 f (by simp [rcGi] at hf; omega)).1.trans (q2 f hf)
  · exact (k3 f (by simp [rcGr] at hf; omega)).2.trans (q3 f hf)
  · refine q6.imp (fun w => ⟨(k3 613 (by omega)).2.trans w.1, w.2⟩) (fun w => ?_)
    obtain ⟨w1, w2, w3, w4, w5⟩ := w
    obtain ⟨m1, m2, m3, m4, m5⟩ := k (A 4 g) (by omega)
    exact ⟨(k3 613 (by omega)).2.trans w1, w2, m1.trans w3, m2.trans w4, fun p hp => (m4 1 p).trans (w5 p hp)⟩
theorem rcHome.kp (k : zK h h') (q : rcHome G h cb) : rcHome G h' cb := by
  obtain ⟨q1, ⟨tr, wy, q2, q3, q4, q5⟩, ⟨q6, q7⟩, q8, q9⟩ := q
  obtain ⟨k1, k2, k3, k4, k5⟩ := k cb (by omega)
  obtain ⟨a1, -⟩ := k tr (by omega)
  obtain ⟨b1, -⟩ := k wy (by omega)
  obtain ⟨c1, c2, -⟩ := k G.1 (by omega)
  obtain ⟨d1, d2, -⟩ := k G.2.1 (by omega)
  exact ⟨k1.trans q1, ⟨tr, wy, (k3 100 (by omega)).2.trans q2, a1.trans q3, (k3 101 (by omega)).2.trans q4, b1.trans q5⟩, ⟨c1.trans q6, c2.trans q7⟩, d1.trans q8, d2.trans q9⟩
theorem rcField.kp (k : zK h h') (hh : rcHome G h cb) {f : Nat} (q : rcField A h σ cb f) : rcField A h' σ cb f := by
  obtain ⟨q1, q2, q3, q4, q5, q6, n, q7, q8, q9⟩ := q
  obtain ⟨k1, k2, k3, k4, k5⟩ := k (A 2 f) (by omega)
  obtain ⟨m1, m2, m3, m4, m5⟩ := k (A 7 f) (by omega)
  obtain ⟨c1, c2, c3, -⟩ := k cb (by have := hh.1; omega)
  refine ⟨k1.trans q1, (k3 500 (by omega)).1.trans q2, (k3 501 (by omega)).2.trans q3, (k3 502 (by omega)).1.trans q4, m1.trans q5, m2.trans q6, n, q7, q8, fun i hi => ?_⟩
  refine (q9 i hi).imp (fun w => ⟨w.1, (m5 7 i (by decide)).trans w.2⟩) (fun w => ⟨w.1, (m5 7 i (by decide)).trans w.2.1, ?_⟩)
  obtain ⟨r1, r2, r3, r4⟩ := w.2.2
  have hr0 : zt h (A 3 (12 * f + i)) ≠ 0 := by
    rw [r1]
    repeat' split
    all_goals omega
  obtain ⟨s1, s2, s3, s4, s5⟩ := k _ hr0
  refine ⟨s1.trans r1, by rw [s2]; exact r2, by rw [s2]; exact r3, fun m hm => ?_⟩
  rw [s2] at hm
  have e : ∀ y, rcSpot A h' cb y = rcSpot A h cb y := fun y => by unfold rcSpot; rw [(c3 100 (by omega)).2, (c3 101 (by omega)).2]
  rw [e, s5 3 m (by decide)]; exact r4 m hm
theorem rcBook.kp (k : zK h h') (q : rcBook A h σ cb b) : rcBook A h' σ cb b := by
  obtain ⟨q1, q2, q3, q4, q5, q6, q7⟩ := q
  obtain ⟨k1, k2, k3, k4, k5⟩ := k b (by omega)
  exact ⟨k1.trans q1, (k3 203 (by omega)).1.trans q2, (k3 204 (by omega)).1.trans q3, (k3 200 (by omega)).2.trans q4, (k3 201 (by omega)).2.trans q5, (k3 202 (by omega)).2.trans q6, (k3 205 (by omega)).2.trans q7⟩
theorem rcStay.kp (k : zK h h') {p i : Nat} (q : rcStay A h σ p i) : rcStay A h' σ p i := by
  obtain ⟨q1, d, g, q2, q3, q4⟩ := q
  obtain ⟨k1, k2, k3, k4, k5⟩ := k _ (by rw [q1]; decide : zt h (A 8 (1000 * p + i)) ≠ 0)
  exact ⟨k1.trans q1, d, g, q2, (k3 800 (by omega)).1.trans q3, (k3 801 (by omega)).2.trans q4⟩
def upE (E : Nat → Nat) (j e : Nat) : Nat → Nat := fun i => if i = j then e else E i
theorem upE_eq {E : Nat → Nat} {i j e : Nat} (q : i = j) : upE E j e i = e := if_pos q
theorem upE_ne {E : Nat → Nat} {i j e : Nat} (q : ¬ i = j) : upE E j e i = E i := if_neg q
/-- a list got new contents -/
theorem rc_L (R : rcAll G F h0 A E h σ cb b) {j e' k g : Nat} {l' : List Nat} {l : List Nat} (hk : k < 2) (hg : g < sn σ 1) (hj : j = 4 + 3 * g + k) (hl' : l' = l.map (A 0)) (hL : zL h' (A 5 j) e' l') (hA : zA h h' (A 5 j) (E j) e') : rcAll G F h0 A (upE E j e') h' (slu σ k g l) cb b := by
  have R0 := R
  obtain ⟨B, nb, Hm, P, Gv, Fd, Ls, St, Ap, Pr⟩ := R
  obtain ⟨a1, a2, a3, a4, a5, a6, a7, a8, a9⟩ := Ap
  have K := hA.1
  have lj : rcLive σ j := Or.inr (Or.inr ⟨by omega, by omega, by omega⟩)
  have Lj := Ls j lj
  have con : ∀ i, rcLive σ i → i ≠ j → rcCon A (slu σ k g l) i = rcCon A σ i := by
    intro i hi hne
    unfold rcCon
    by_cases h1 : i = 0
    · simp [h1, sn_lu]
    · by_cases h2 : i = 1
      · simp [h2, sn_lu]
      · by_cases h3 : i = 2
        · simp [h3, sn_lu]
        · simp only [h1, h2, h3, if_false, sn_lu, sy_lu, sl_lu]
          by_cases h4 : i % 3 = 0
          · simp only [h4, if_true]
          · simp only [h4, if_false]
            by_cases h5 : i % 3 = 1
            · simp only [h5, if_true]
              rw [if_neg (fun w => hne (by omega))]
            · simp only [h5, if_false]
              rw [if_neg (fun w => hne (by omega))]
  have conj : rcCon A (slu σ k g l) j = l' := by
    unfold rcCon
    simp only [show ¬ j = 0 by omega, show ¬ j = 1 by omega, show ¬ j = 2 by omega, show ¬ j % 3 = 0 by omega, if_false, sl_lu]
    rw [hl']
    by_cases h5 : j % 3 = 1
    · rw [if_pos h5, if_pos ⟨by omega, by omega⟩]
    · rw [if_neg h5, if_pos ⟨by omega, by omega⟩]
  have old : ∀ i, rcLive σ i → zt h (E i) ≠ 0 := fun i hi => (Ls i hi).ne.2.1
  have he' : e' = E j ∨ zt h e' = 0 := hA.2.2.2
  have nF' : ∀ a, F a → zt h a ≠ 0 := fun a ha => by rw [(Pr a ha).2.1]; exact (Pr a ha).1
  have zl' : ∀ i, rcLive σ i → zl h' (E i) = zl h (E i) := fun i hi => (K _ (old i hi)).2.1
  refine ⟨B.kp K, nb, Hm.kp K, fun p hp => (P p hp).kp K, fun g hg => (Gv g hg).kp K, fun f hf => (Fd f hf).kp K Hm, fun i hi => ?_, fun p hp i hi => (St p hp i hi).kp K, ⟨a1, a2, a3, fun i m hi hm he => ?_, fun i hi => ?_, a6, a7, a8, a9⟩, fun a ha => ?_⟩
  · have hi : rcLive σ i := hi
    by_cases hij : i = j
    · subst hij
      rw [upE_eq rfl, conj]; exact hL
    · rw [upE_ne hij, con i hi hij]
      refine (Ls i hi).kept hA (fun q => hij (a2 i j hi lj q)) ?_
      by_cases hee : E i = E j
      · right
        rcases a4 i j hi lj hee with q | q
        · exact absurd q hij
        · have h5 := (Ls i hi).2.2.2.2.1
          exact List.eq_nil_of_length_eq_zero (by omega)
      · exact Or.inl hee
  · have hi : rcLive σ i := hi
    have hm : rcLive σ m := hm
    by_cases hij : i = j
    · by_cases hmj : m = j
      · exact Or.inl (hij.trans hmj.symm)
      · rw [upE_eq hij, upE_ne hmj] at he
        rw [upE_eq hij]
        rcases he' with q | q
        · rcases a4 j m lj hm (q.symm.trans he) with w | w
          · exact absurd w.symm hmj
          · right; rw [q, zl' j lj]; exact w
        · exact absurd (he ▸ q) (old m hm)
    · by_cases hmj : m = j
      · rw [upE_ne hij, upE_eq hmj] at he
        rw [upE_ne hij]
        rcases he' with q | q
        · rcases a4 i j hi lj (he.trans q) with w | w
          · exact absurd w hij
          · right; rw [zl' i hi]; exact w
        · exact absurd (he ▸ q) (old i hi)
      · rw [upE_ne hij, upE_ne hmj] at he
        rw [upE_ne hij, zl' i hi]
        exact a4 i m hi hm he
  · have hi : rcLive σ i := hi
    by_cases hij : i = j
    · rw [upE_eq hij]
      rcases he' with q | q
      · rw [q, zl' j lj]; exact a5 j lj
      · exact Or.inl (fun w => nF' _ w q)
    · rw [upE_ne hij, zl' i hi]; exact a5 i hi
  · obtain ⟨p1, p2, p3, p4, p5⟩ := Pr a ha
    have hz := nF' a ha
    obtain ⟨k1, k2, k3, k4, k5⟩ := K a hz
    have hne : a ≠ A 5 j := fun q => a3 j lj (q ▸ ha)
    refine ⟨p1, k1.trans p2, k2.trans p3, fun f => ⟨(hA.2.1 a hz hne f).1.trans (p4 f).1, (hA.2.1 a hz hne f).2.trans (p4 f).2⟩, fun k i hi => ⟨(k4 k i).trans (p5 k i hi).1, ?_⟩⟩
    by_cases hk2 : k = 2
    · subst hk2
      rw [hA.2.2.1 a i hz (fun q => ?_)]
      · exact (p5 2 i hi).2
      · rcases a5 j lj with w | w
        · exact w (q ▸ ha)
        · rw [← q, p3] at w; omega
    · exact (k5 k i hk2).trans (p5 k i hi).2
end ZLS
