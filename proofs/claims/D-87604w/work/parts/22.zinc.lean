/-! THE PICTURE of a book with one thing more: a person, a grave, a field, a stay, a row; a row torn out; a place filled. -/
set_option maxRecDepth 100000
section ZIN
variable {G : Nat × Nat × Nat} {F : Nat → Prop} {h0 h h' : ZH} {A A' : ZA} {E E' : Nat → Nat} {σ σ' : ZS} {cb b : Nat} {C : Nat → List Nat}
theorem rc_incP (R : rcAllC G F h0 A E h σ C cb b) {p : Nat} (hp : sn σ 2 = p) (hP : rcPers A h σ p) (hy : sy σ p = []) (hL : zL h (A 5 (3 + 3 * p)) (E (3 + 3 * p)) (C (3 + 3 * p)))
    (h1 : ∀ i, i < p → A 0 i ≠ A 0 p) (h2 : ¬ F (A 0 p)) (h3 : ∀ j, rcLive σ j → A 5 j ≠ A 5 (3 + 3 * p)) (h4 : ¬ F (A 5 (3 + 3 * p))) (h5 : ∀ j, rcLive σ j → E j ≠ E (3 + 3 * p) ∨ zl h (E (3 + 3 * p)) = 0) (h6 : ¬ F (E (3 + 3 * p)) ∨ zl h (E (3 + 3 * p)) = 0) :
    rcAllC G F h0 A E h (snu σ 2 (p + 1)) C cb b := by
  obtain ⟨B, nb, Hm, P, Gv, Fd, L, St, Ap, Pr⟩ := R
  obtain ⟨a1, a2, a3, a4, a5, a6, a7, a8, a9⟩ := Ap
  have lv : ∀ j, rcLive (snu σ 2 (p + 1)) j → rcLive σ j ∨ j = 3 + 3 * p := by
    intro j hj
    unfold rcLive at *
    have e2 : sn (snu σ 2 (p + 1)) 2 = p + 1 := rfl
    have e1 : sn (snu σ 2 (p + 1)) 1 = sn σ 1 := rfl
    rw [e1, e2] at hj
    omega
  have s2 : sn (snu σ 2 (p + 1)) 2 = p + 1 := rfl
  refine ⟨B, nb, Hm, fun q hq => ?_, Gv, Fd, fun j hj => ?_, fun q hq k hk => ?_, ⟨fun k n hk => ?_, fun i j hi hj he => ?_, fun i hi => ?_, fun i j hi hj he => ?_, fun i hi => ?_, a6, a7, a8, a9⟩, Pr⟩
  · rw [s2] at hq
    by_cases hqp : q = p
    · subst hqp; exact hP
    · exact P q (by omega)
  · rcases lv j hj with w | w
    · exact L j w
    · rw [w]; exact hL
  · rw [s2] at hq
    by_cases hqp : q = p
    · subst hqp
      have hk : k < (sy σ q).length := hk
      rw [hy] at hk; exact absurd hk (Nat.not_lt_zero _)
    · exact St q (by omega) k hk
  · by_cases hk0 : k = 0
    · subst hk0
      have hn : n = p + 1 := by rcases hk with w | w | w | w <;> omega
      obtain ⟨u1, u2⟩ := a1 0 p (Or.inl ⟨rfl, hp.symm⟩)
      refine ⟨fun i j hi hj he => ?_, fun i hi => ?_⟩
      · by_cases hip : i = p
        · by_cases hjp : j = p
          · omega
          · rw [hip] at he; exact absurd he.symm (h1 j (by omega))
        · by_cases hjp : j = p
          · rw [hjp] at he; exact absurd he (h1 i (by omega))
          · exact u1 i j (by omega) (by omega) he
      · by_cases hip : i = p
        · rw [hip]; exact h2
        · exact u2 i (by omega)
    · refine a1 k n ?_
      have e1 : sn (snu σ 2 (p + 1)) 1 = sn σ 1 := rfl
      have e0 : sn (snu σ 2 (p + 1)) 0 = sn σ 0 := rfl
      rw [e1, e0] at hk
      omega
  · rcases lv i hi with w | w
    · rcases lv j hj with v | v
      · exact a2 i j w v he
      · rw [v] at he; exact absurd he (h3 i w)
    · rcases lv j hj with v | v
      · rw [w] at he; exact absurd he.symm (h3 j v)
      · omega
  · rcases lv i hi with w | w
    · exact a3 i w
    · rw [w]; exact h4
  · rcases lv i hi with w | w
    · rcases lv j hj with v | v
      · exact a4 i j w v he
      · rw [v] at he
        rcases h5 i w with z | z
        · exact absurd he z
        · exact Or.inr (he ▸ z)
    · rcases lv j hj with v | v
      · rw [w] at he
        rcases h5 j v with z | z
        · exact absurd he.symm z
        · exact Or.inr (w ▸ z)
      · exact Or.inl (by omega)
  · rcases lv i hi with w | w
    · exact a5 i w
    · rw [w]; exact h6
theorem rc_incG (R : rcAllC G F h0 A E h σ C cb b) {g : Nat} (hg : sn σ 1 = g) (hG : rcGrave A h σ g) (h613 : sa σ 613 g = -1) (hL : ∀ j, j = 4 + 3 * g ∨ j = 5 + 3 * g → zL h (A 5 j) (E j) (C j))
    (h1 : ∀ i, i < g → A 1 i ≠ A 1 g) (h2 : ¬ F (A 1 g)) (h3 : ∀ i j, rcLive σ j → i = 4 + 3 * g ∨ i = 5 + 3 * g → A 5 j ≠ A 5 i) (h3' : A 5 (4 + 3 * g) ≠ A 5 (5 + 3 * g)) (h4 : ∀ j, j = 4 + 3 * g ∨ j = 5 + 3 * g → ¬ F (A 5 j))
    (h5 : ∀ i j, rcLive σ j → i = 4 + 3 * g ∨ i = 5 + 3 * g → E j ≠ E i ∨ zl h (E i) = 0) (h5' : E (4 + 3 * g) ≠ E (5 + 3 * g) ∨ zl h (E (4 + 3 * g)) = 0) (h6 : ∀ j, j = 4 + 3 * g ∨ j = 5 + 3 * g → ¬ F (E j) ∨ zl h (E j) = 0) :
    rcAllC G F h0 A E h (snu σ 1 (g + 1)) C cb b := by
  obtain ⟨B, nb, Hm, P, Gv, Fd, L, St, Ap, Pr⟩ := R
  obtain ⟨a1, a2, a3, a4, a5, a6, a7, a8, a9⟩ := Ap
  have lv : ∀ j, rcLive (snu σ 1 (g + 1)) j → rcLive σ j ∨ j = 4 + 3 * g ∨ j = 5 + 3 * g := by
    intro j hj
    unfold rcLive at *
    have e2 : sn (snu σ 1 (g + 1)) 1 = g + 1 := rfl
    have e1 : sn (snu σ 1 (g + 1)) 2 = sn σ 2 := rfl
    rw [e1, e2] at hj
    omega
  have s2 : sn (snu σ 1 (g + 1)) 1 = g + 1 := rfl
  refine ⟨B, nb, Hm, P, fun q hq => ?_, Fd, fun j hj => ?_, St, ⟨fun k n hk => ?_, fun i j hi hj he => ?_, fun i hi => ?_, fun i j hi hj he => ?_, fun i hi => ?_, a6, a7, fun i j hi hj h1 h2 he => ?_, fun i hi h1 => ?_⟩, Pr⟩
  · rw [s2] at hq
    by_cases hqp : q = g
    · subst hqp; exact hG
    · exact Gv q (by omega)
  · rcases lv j hj with w | w
    · exact L j w
    · exact hL j w
  · by_cases hk0 : k = 1
    · subst hk0
      have hn : n = g + 1 := by rcases hk with w | w | w | w <;> omega
      obtain ⟨u1, u2⟩ := a1 1 g (Or.inr (Or.inl ⟨rfl, hg.symm⟩))
      refine ⟨fun i j hi hj he => ?_, fun i hi => ?_⟩
      · by_cases hip : i = g
        · by_cases hjp : j = g
          · omega
          · rw [hip] at he; exact absurd he.symm (h1 j (by omega))
        · by_cases hjp : j = g
          · rw [hjp] at he; exact absurd he (h1 i (by omega))
          · exact u1 i j (by omega) (by omega) he
      · by_cases hip : i = g
        · rw [hip]; exact h2
        · exact u2 i (by omega)
    · refine a1 k n ?_
      have e1 : sn (snu σ 1 (g + 1)) 2 = sn σ 2 := rfl
      have e0 : sn (snu σ 1 (g + 1)) 0 = sn σ 0 := rfl
      rw [e1, e0] at hk
      omega
  · rcases lv i hi with w | w
    · rcases lv j hj with v | v
      · exact a2 i j w v he
      · exact absurd he (h3 j i w v)
    · rcases lv j hj with v | v
      · exact absurd he.symm (h3 i j v w)
      · rcases w with w | w <;> rcases v with v | v
        · omega
        · rw [w, v] at he; exact absurd he h3'
        · rw [w, v] at he; exact absurd he.symm h3'
        · omega
  · rcases lv i hi with w | w
    · exact a3 i w
    · exact h4 i w
  · rcases lv i hi with w | w
    · rcases lv j hj with v | v
      · exact a4 i j w v he
      · rcases h5 j i w v with z | z
        · exact absurd he z
        · exact Or.inr (he ▸ z)
    · rcases lv j hj with v | v
      · rcases h5 i j v w with z | z
        · exact absurd he.symm z
        · exact Or.inr z
      · rcases w with w | w <;> rcases v with v | v
        · exact Or.inl (by omega)
        · rw [w, v] at he
          rw [w]
          exact h5'.elim (fun z => absurd he z) Or.inr
        · rw [w, v] at he
          rw [w, he]
          exact h5'.elim (fun z => absurd he.symm z) Or.inr
        · exact Or.inl (by omega)
  · rcases lv i hi with w | w
    · exact a5 i w
    · exact h6 i w
  · rw [s2] at hi hj
    have n1 : ¬ i = g := fun q => h1 (q ▸ h613)
    have n2 : ¬ j = g := fun q => h2 (q ▸ h613)
    exact a8 i j (by omega) (by omega) h1 h2 he
  · rw [s2] at hi
    have n1 : ¬ i = g := fun q => h1 (q ▸ h613)
    exact a9 i (by omega) h1
theorem rc_incF (R : rcAllC G F h0 A E h σ C cb b) {f : Nat} (hf : sn σ 0 = f) (hF : rcField A h σ cb f) (hm : sa σ 502 f = 0)
    (h1 : ∀ i, i < f → A 2 i ≠ A 2 f) (h2 : ¬ F (A 2 f)) (h1' : ∀ i, i < f → A 7 i ≠ A 7 f) (h2' : ¬ F (A 7 f)) :
    rcAllC G F h0 A E h (snu σ 0 (f + 1)) C cb b := by
  obtain ⟨B, nb, Hm, P, Gv, Fd, L, St, Ap, Pr⟩ := R
  obtain ⟨a1, a2, a3, a4, a5, a6, a7, a8, a9⟩ := Ap
  have s2 : sn (snu σ 0 (f + 1)) 0 = f + 1 := rfl
  have rl : ∀ r, rcRowLive (snu σ 0 (f + 1)) r → rcRowLive σ r := by
    intro r hr
    obtain ⟨r1, r2, r3⟩ := hr
    rw [s2] at r1
    have r2 : r % 12 < (sa σ 502 (r / 12)).toNatClampNeg := r2
    refine ⟨?_, r2, r3⟩
    by_cases w : r / 12 = f
    · rw [w, hm] at r2; exact absurd r2 (Nat.not_lt_zero _)
    · omega
  have inj : ∀ k, k = 2 ∨ k = 7 → (∀ i, i < f → A k i ≠ A k f) → ¬ F (A k f) → (∀ i j, i < f + 1 → j < f + 1 → A k i = A k j → i = j) ∧ ∀ i, i < f + 1 → ¬ F (A k i) := by
    intro k hk k1 k2
    obtain ⟨u1, u2⟩ := a1 k f (by omega)
    refine ⟨fun i j hi hj he => ?_, fun i hi => ?_⟩
    · by_cases hip : i = f
      · by_cases hjp : j = f
        · omega
        · rw [hip] at he; exact absurd he.symm (k1 j (by omega))
      · by_cases hjp : j = f
        · rw [hjp] at he; exact absurd he (k1 i (by omega))
        · exact u1 i j (by omega) (by omega) he
    · by_cases hip : i = f
      · rw [hip]; exact k2
      · exact u2 i (by omega)
  refine ⟨B, nb, Hm, P, Gv, fun q hq => ?_, L, St, ⟨fun k n hk => ?_, a2, a3, a4, a5, fun i j hi hj => a6 i j (rl i hi) (rl j hj), fun i hi => a7 i (rl i hi), a8, a9⟩, Pr⟩
  · rw [s2] at hq
    by_cases hqp : q = f
    · subst hqp; exact hF
    · exact Fd q (by omega)
  · by_cases k2 : k = 2
    · have hn : n = f + 1 := by rcases hk with w | w | w | w <;> omega
      subst hn; subst k2
      exact inj 2 (Or.inl rfl) h1 h2
    · by_cases k7 : k = 7
      · have hn : n = f + 1 := by rcases hk with w | w | w | w <;> omega
        subst hn; subst k7
        exact inj 7 (Or.inr rfl) h1' h2'
      · refine a1 k n ?_
        have e1 : sn (snu σ 0 (f + 1)) 2 = sn σ 2 := rfl
        have e0 : sn (snu σ 0 (f + 1)) 1 = sn σ 1 := rfl
        rw [e1, e0] at hk
        omega
theorem rc_incS (R : rcAllC G F h0 A E h σ C cb b) {p k : Nat} {d t : Int32} (hk : k = (sy σ p).length) (h1 : zt h (A 8 (1000 * p + k)) = 15) (h2 : zi h 800 (A 8 (1000 * p + k)) = d) (h3 : zr h 801 (A 8 (1000 * p + k)) = rfx (A 1) t) :
    rcAllC G F h0 A E h (syu σ p (sy σ p ++ [(d, t)])) C cb b := by
  obtain ⟨B, nb, Hm, P, Gv, Fd, L, St, Ap, Pr⟩ := R
  refine ⟨B, nb, Hm, P, Gv, Fd, L, fun q hq i hi => ?_, Ap, Pr⟩
  rw [sy_yu] at hi
  by_cases hqp : q = p
  · subst hqp
    rw [if_pos rfl] at hi
    unfold rcStay
    rw [sy_yu, if_pos rfl]
    by_cases hik : i = k
    · subst hik
      exact ⟨h1, d, t, by rw [hk]; simp, h2, h3⟩
    · have hi2 : i < (sy σ q).length := by simp at hi; omega
      obtain ⟨s1, d2, t2, s2, s3, s4⟩ := St q hq i hi2
      exact ⟨s1, d2, t2, by rw [List.getElem?_append_left hi2]; exact s2, s3, s4⟩
  · rw [if_neg hqp] at hi
    unfold rcStay
    rw [sy_yu, if_neg hqp]
    exact St q hq i hi
theorem rc_inj2 (R : rcAll G F h0 A E h σ cb b) {p q : Nat} (hp : p < sn σ 0) (hq : q < sn σ 0) (e : A 2 p = A 2 q) : p = q := (R.2.2.2.2.2.2.2.2.1.1 2 _ (Or.inr (Or.inr (Or.inl ⟨rfl, rfl⟩)))).1 p q hp hq e
theorem rc_inj7 (R : rcAll G F h0 A E h σ cb b) {p q : Nat} (hp : p < sn σ 0) (hq : q < sn σ 0) (e : A 7 p = A 7 q) : p = q := (R.2.2.2.2.2.2.2.2.1.1 7 _ (Or.inr (Or.inr (Or.inr ⟨rfl, rfl⟩)))).1 p q hp hq e
theorem rc_nF2 (R : rcAll G F h0 A E h σ cb b) {p : Nat} (hp : p < sn σ 0) : ¬ F (A 2 p) := (R.2.2.2.2.2.2.2.2.1.1 2 _ (Or.inr (Or.inr (Or.inl ⟨rfl, rfl⟩)))).2 p hp
theorem rc_nF7 (R : rcAll G F h0 A E h σ cb b) {p : Nat} (hp : p < sn σ 0) : ¬ F (A 7 p) := (R.2.2.2.2.2.2.2.2.1.1 7 _ (Or.inr (Or.inr (Or.inr ⟨rfl, rfl⟩)))).2 p hp
/-- a place of a field's array of rows written -/
theorem rc_F7 (R : rcAll G F h0 A E h σ cb b) {f n : Nat} {q : Option Nat} {m : Nat} {x y : Int32} (hf : f < sn σ 0) (hn : n < 12) (hm : m ≤ 12) (hx : x = nI m) 
    (hrow : ∀ i, i < m → i ≠ n → (i : Nat) < (sa σ 502 f).toNatClampNeg) (hnew : n < m → (y = -1 ∧ q = none ∨ y = 0 ∧ q = some (A 3 (12 * f + n)) ∧ rcRow A h σ cb (12 * f + n)))
    (hap : y = 0 → (∀ i, rcRowLive σ i → A 3 i = A 3 (12 * f + n) → i = 12 * f + n) ∧ ¬ F (A 3 (12 * f + n))) :
    rcAll G F h0 A E (zpi (zps h 7 (A 7 f) n q) 502 (A 2 f) x) (sau (sau σ 501 (12 * f + n) y) 502 f x) cb b := by
  have R0 := R
  obtain ⟨B, nb, Hm, P, Gv, Fd, L, St, Ap, Pr⟩ := R
  have s5 : ∀ k, ¬ k = 501 → ¬ k = 502 → ∀ i, sa (sau (sau σ 501 (12 * f + n) y) 502 f x) k i = sa σ k i := fun k h1 h2 i => by rw [sa_au, if_neg (fun w => h2 w.1), sa_au, if_neg (fun w => h1 w.1)]
  have zin : ∀ k a, ¬ k = 502 → zi (zpi (zps h 7 (A 7 f) n q) 502 (A 2 f) x) k a = zi h k a := fun k a hk => by rw [zi_pi, if_neg (fun w => hk w.1)]; rfl
  have zsn : ∀ k a i, ¬ k = 7 → zs (zpi (zps h 7 (A 7 f) n q) 502 (A 2 f) x) k a i = zs h k a i := fun k a i hk => by rw [zs_pi, zs_ps, if_neg (fun w => hk w.1)]
  have e501 : ∀ i, sa (sau (sau σ 501 (12 * f + n) y) 502 f x) 501 i = if i = 12 * f + n then y else sa σ 501 i := fun i => by
    rw [sa_au, if_neg (fun w => by omega), sa_au]
    by_cases w : i = 12 * f + n
    · rw [if_pos ⟨rfl, w⟩, if_pos w]
    · rw [if_neg (fun z => w z.2), if_neg w]
  have e502 : ∀ i, sa (sau (sau σ 501 (12 * f + n) y) 502 f x) 502 i = if i = f then x else sa σ 502 i := fun i => by
    rw [sa_au]
    by_cases w : i = f
    · rw [if_pos ⟨rfl, w⟩, if_pos w]
    · rw [if_neg (fun z => w z.2), if_neg w, sa_au, if_neg (fun w => by omega)]
  have rowk : ∀ r, rcRow A h σ cb r → rcRow A (zpi (zps h 7 (A 7 f) n q) 502 (A 2 f) x) (sau (sau σ 501 (12 * f + n) y) 502 f x) cb r := by
    intro r w
    obtain ⟨r1, r2, r3, r4⟩ := w
    refine ⟨?_, ?_, r3, fun k hk => ?_⟩
    · rw [s5 5 (by decide) (by decide)]; exact r1
    · rw [s5 6 (by decide) (by decide)]; exact r2
    · rw [zsn 3 _ _ (by decide), s5 8 (by decide) (by decide)]; exact r4 k hk
  refine ⟨?_, nb, Hm, fun p hp => ?_, fun p hp => ?_, fun p hp => ?_, fun j hj => ?_, fun p hp k hk => ?_, ?_, fun c hc => ?_⟩
  · obtain ⟨b1, b2, b3, b4⟩ := B
    exact ⟨b1, by rw [zin 203 _ (by decide), s5 203 (by decide) (by decide)]; exact b2, by rw [zin 204 _ (by decide), s5 204 (by decide) (by decide)]; exact b3, b4⟩
  · obtain ⟨p1, p2, p3, p4, p5⟩ := P p hp
    refine ⟨p1, fun k hk => ?_, fun k hk => ?_, ?_, p5⟩
    · rw [zin k _ (by simp [rcPi] at hk; omega), s5 k (by simp [rcPi] at hk; omega) (by simp [rcPi] at hk; omega)]; exact p2 k hk
    · rw [s5 k (by simp [rcPr] at hk; omega) (by simp [rcPr] at hk; omega)]; exact p3 k hk
    · rw [s5 710 (by decide) (by decide)]; exact p4
  · obtain ⟨g1, g2, g3, g4, g5, g6⟩ := Gv p hp
    refine ⟨?_, fun k hk => ?_, fun k hk => ?_, g4, g5, ?_⟩
    · rw [s5 10 (by decide) (by decide)]; exact g1
    · rw [zin k _ (by simp [rcGi] at hk; omega), s5 k (by simp [rcGi] at hk; omega) (by simp [rcGi] at hk; omega)]; exact g2 k hk
    · rw [s5 k (by simp [rcGr] at hk; omega) (by simp [rcGr] at hk; omega)]; exact g3 k hk
    · rw [s5 613 (by decide) (by decide)]
      refine g6.imp id fun w => ⟨w.1, w.2.1, w.2.2.1, w.2.2.2.1, fun q hq => ?_⟩
      rw [s5 20 (by decide) (by decide)]; exact w.2.2.2.2 q hq
  · obtain ⟨f1, f2, f3, f4, f5, f6, m', f7, f8, f9⟩ := Fd p hp
    by_cases hpf : p = f
    · subst hpf
      refine ⟨f1, by rw [zin 500 _ (by decide), s5 500 (by decide) (by decide)]; exact f2, f3, by rw [zi_pi, if_pos ⟨rfl, rfl⟩, e502, if_pos rfl], f5, f6, m, hm, by rw [e502, if_pos rfl]; exact hx, fun i hi => ?_⟩
      rw [e501, zs_pi, zs_ps]
      by_cases hin : i = n
      · subst hin
        rw [if_pos rfl, if_pos ⟨rfl, rfl, rfl⟩]
        exact (hnew hi).imp id fun w => ⟨w.1, w.2.1, rowk _ w.2.2⟩
      · rw [if_neg (by omega), if_neg (fun w => hin w.2.2)]
        have := hrow i hi hin
        rw [f8, nI_clamp (by omega)] at this
        exact (f9 i this).imp id fun w => ⟨w.1, w.2.1, rowk _ w.2.2⟩
    · refine ⟨f1, by rw [zin 500 _ (by decide), s5 500 (by decide) (by decide)]; exact f2, f3, by rw [zi_pi, if_neg (fun w => hpf (rc_inj2 R0 hp hf w.2)), e502, if_neg hpf]; exact f4, f5, f6, m', f7, by rw [e502, if_neg hpf]; exact f8, fun i hi => ?_⟩
      rw [e501, if_neg (by omega), zs_pi, zs_ps, if_neg (fun w => hpf (rc_inj7 R0 hp hf w.2.1))]
      exact (f9 i hi).imp id fun w => ⟨w.1, w.2.1, rowk _ w.2.2⟩
  · obtain ⟨l1, l2, l3, l4, l5, l6, l7, l8⟩ := L j hj
    exact ⟨l1, by rw [zin 302 _ (by decide)]; exact l2, l3, l4, l5, l6, fun i hi => by rw [zsn 2 _ _ (by decide)]; exact l7 i hi, l8⟩
  · obtain ⟨s1, d, t, s2, s3, s4⟩ := St p hp k hk
    exact ⟨s1, d, t, s2, by rw [zin 800 _ (by decide)]; exact s3, s4⟩
  · obtain ⟨a1, a2, a3, a4, a5, a6, a7, a8, a9⟩ := Ap
    have rl : ∀ r, rcRowLive (sau (sau σ 501 (12 * f + n) y) 502 f x) r → (rcRowLive σ r ∧ r ≠ 12 * f + n) ∨ (r = 12 * f + n ∧ y = 0) := by
      intro r hr
      obtain ⟨r1, r2, r3⟩ := hr
      rw [e502] at r2
      rw [e501] at r3
      by_cases w : r = 12 * f + n
      · rw [if_pos w] at r3; exact Or.inr ⟨w, r3⟩
      · rw [if_neg w] at r3
        refine Or.inl ⟨⟨r1, ?_, r3⟩, w⟩
        by_cases v : r / 12 = f
        · rw [if_pos v, hx, nI_clamp (by omega)] at r2
          rw [v]; exact hrow _ r2 (by omega)
        · rw [if_neg v] at r2; exact r2
    have t9 : ∀ i, sa (sau (sau σ 501 (12 * f + n) y) 502 f x) 613 i = sa σ 613 i := s5 613 (by decide) (by decide)
    refine ⟨a1, a2, a3, a4, a5, fun i j hi hj he => ?_, fun i hi => ?_, fun i j hi hj h1 h2 => a8 i j hi hj (by rw [← t9]; exact h1) (by rw [← t9]; exact h2), fun i hi h1 => a9 i hi (by rw [← t9]; exact h1)⟩
    · rcases rl i hi with ⟨w, w2⟩ | ⟨w, w2⟩
      · rcases rl j hj with ⟨v, v2⟩ | ⟨v, v2⟩
        · exact a6 i j w v he
        · rw [v] at he ⊢; exact (hap v2).1 i w he
      · rcases rl j hj with ⟨v, v2⟩ | ⟨v, v2⟩
        · rw [w] at he ⊢; exact ((hap w2).1 j v he.symm).symm
        · omega
    · rcases rl i hi with ⟨w, w2⟩ | ⟨w, w2⟩
      · exact a7 i w
      · rw [w]; exact (hap w2).2
  · obtain ⟨q1, q2, q3, q4, q5⟩ := Pr c hc
    refine ⟨q1, q2, q3, fun k => ⟨?_, (q4 k).2⟩, fun k i hi => ⟨(q5 k i hi).1, ?_⟩⟩
    · rw [zi_pi, if_neg (fun w : k = 502 ∧ c = A 2 f => rc_nF2 R0 hf (w.2 ▸ hc))]; exact (q4 k).1
    · rw [zs_pi, zs_ps, if_neg (fun w : k = 7 ∧ c = A 7 f ∧ i = n => rc_nF7 R0 hf (w.2.1 ▸ hc))]; exact (q5 k i hi).2
/-- a place of a row filled -/
theorem rc_S3 (R : rcAll G F h0 A E h σ cb b) {r k : Nat} {x : Int32} {q : Option Nat} (hr : rcRowLive σ r) (hk : k < 30) (hq : q = rcSpot A h cb x) :
    rcAll G F h0 A E (zps h 3 (A 3 r) k q) (sau σ 8 (30 * r + k) x) cb b := by
  obtain ⟨B, nb, Hm, P, Gv, Fd, L, St, Ap, Pr⟩ := R
  have s5 : ∀ k', ¬ k' = 8 → ∀ i, sa (sau σ 8 (30 * r + k) x) k' i = sa σ k' i := fun k' h1 i => by rw [sa_au, if_neg (fun w => h1 w.1)]
  have zsn : ∀ k' a i, ¬ k' = 3 → zs (zps h 3 (A 3 r) k q) k' a i = zs h k' a i := fun k' a i hk => by rw [zs_ps, if_neg (fun w => hk w.1)]
  have rl : ∀ r', rcRowLive (sau σ 8 (30 * r + k) x) r' → rcRowLive σ r' := by
    intro r' h
    obtain ⟨r1, r2, r3⟩ := h
    rw [s5 502 (by decide)] at r2
    rw [s5 501 (by decide)] at r3
    exact ⟨r1, r2, r3⟩
  obtain ⟨a1, a2, a3, a4, a5, a6, a7, a8, a9⟩ := Ap
  refine ⟨?_, nb, Hm, fun p hp => ?_, fun p hp => ?_, fun p hp => ?_, fun j hj => ?_, St, ?_, fun c hc => ?_⟩
  · obtain ⟨b1, b2, b3, b4⟩ := B
    exact ⟨b1, by rw [s5 203 (by decide)]; exact b2, by rw [s5 204 (by decide)]; exact b3, b4⟩
  · obtain ⟨p1, p2, p3, p4, p5⟩ := P p hp
    refine ⟨p1, fun k hk => ?_, fun k hk => ?_, ?_, p5⟩
    · rw [s5 k (by simp [rcPi] at hk; omega)]; exact p2 k hk
    · rw [s5 k (by simp [rcPr] at hk; omega)]; exact p3 k hk
    · rw [s5 710 (by decide)]; exact p4
  · obtain ⟨g1, g2, g3, g4, g5, g6⟩ := Gv p hp
    refine ⟨?_, fun k hk => ?_, fun k hk => ?_, g4, g5, ?_⟩
    · rw [s5 10 (by decide)]; exact g1
    · rw [s5 k (by simp [rcGi] at hk; omega)]; exact g2 k hk
    · rw [s5 k (by simp [rcGr] at hk; omega)]; exact g3 k hk
    · rw [s5 613 (by decide)]
      refine g6.imp id fun w => ⟨w.1, w.2.1, w.2.2.1, w.2.2.2.1, fun q hq => ?_⟩
      rw [s5 20 (by decide)]; exact w.2.2.2.2 q hq
  · obtain ⟨f1, f2, f3, f4, f5, f6, m', f7, f8, f9⟩ := Fd p hp
    refine ⟨f1, by rw [s5 500 (by decide)]; exact f2, f3, by rw [s5 502 (by decide)]; exact f4, f5, f6, m', f7, by rw [s5 502 (by decide)]; exact f8, fun i hi => ?_⟩
    rw [s5 501 (by decide), zsn 7 _ _ (by decide)]
    refine (f9 i hi).imp id fun w => ⟨w.1, w.2.1, ?_⟩
    obtain ⟨w0, w1, r1, r2, r3, r4⟩ := w
    have hl : rcRowLive σ (12 * p + i) := by
      unfold rcRowLive
      rw [show (12 * p + i) / 12 = p by omega, show (12 * p + i) % 12 = i by omega, f8, nI_clamp (by omega)]
      exact ⟨hp, hi, w0⟩
    refine ⟨by rw [s5 5 (by decide)]; exact r1, by rw [s5 6 (by decide)]; exact r2, r3, fun m hm => ?_⟩
    have hm : m < zl h (A 3 (12 * p + i)) := hm
    rw [zs_ps, sa_au]
    by_cases hmk : 12 * p + i = r ∧ m = k
    · rw [if_pos ⟨rfl, by rw [hmk.1], hmk.2⟩, if_pos ⟨rfl, by rw [hmk.1, hmk.2]⟩]; exact hq
    · rw [if_neg (fun z => hmk ⟨a6 _ _ hl hr z.2.1, z.2.2⟩), if_neg (fun z => hmk (by omega))]; exact r4 m hm
  · obtain ⟨l1, l2, l3, l4, l5, l6, l7, l8⟩ := L j hj
    exact ⟨l1, l2, l3, l4, l5, l6, fun i hi => by rw [zsn 2 _ _ (by decide)]; exact l7 i hi, l8⟩
  · have t9 : ∀ i, sa (sau σ 8 (30 * r + k) x) 613 i = sa σ 613 i := s5 613 (by decide)
    exact ⟨a1, a2, a3, a4, a5, fun i j hi hj => a6 i j (rl i hi) (rl j hj), fun i hi => a7 i (rl i hi), fun i j hi hj h1 h2 => a8 i j hi hj (by rw [← t9]; exact h1) (by rw [← t9]; exact h2), fun i hi h1 => a9 i hi (by rw [← t9]; exact h1)⟩
  · obtain ⟨q1, q2, q3, q4, q5⟩ := Pr c hc
    refine ⟨q1, q2, q3, q4, fun k' i hi => ⟨(q5 k' i hi).1, ?_⟩⟩
    rw [zs_ps, if_neg (fun w : k' = 3 ∧ c = A 3 r ∧ i = k => a7 r hr (w.2.1 ▸ hc))]; exact (q5 k' i hi).2
end ZIN
