/-! THE PICTURE of a book under changes that don't touch it, and with more things in it. -/
set_option maxRecDepth 100000
section ZMO
variable {G : Nat × Nat × Nat} {F : Nat → Prop} {h0 h h' : ZH} {A A' : ZA} {E E' : Nat → Nat} {σ σ' : ZS} {cb b : Nat} {C : Nat → List Nat}
theorem zL.fr {a e : Nat} {l : List Nat} (k : zL h a e l) (q : zFr h h') : zL h' a e l := by
  obtain ⟨n1, n2, n3⟩ := k.ne
  obtain ⟨k1, k2, k3, k4, k5, k6, k7, k8⟩ := k
  obtain ⟨a1, a2, a3, a4⟩ := q a n1
  obtain ⟨e1, e2, e3, e4⟩ := q e n2
  refine ⟨a1.trans k1, (a3 302).1.trans k2, (a3 301).2.trans k3, e1.trans k4, by rw [e2]; exact k5, by rw [e2]; exact k6, fun i hi => (e4 2 i).2.trans (k7 i hi), fun x hx => ?_⟩
  have h8 := k8 x hx
  have hx0 : zt h x ≠ 0 := fun w => by rw [w] at h8; simp [zas] at h8
  rw [(q x hx0).1]; exact h8
theorem zSm.fr {a : Nat} (s : zSm h0 h a) (hz : zt h0 a ≠ 0) (q : zFr h h') : zSm h0 h' a := by
  obtain ⟨s1, s2, s3, s4⟩ := s
  obtain ⟨a1, a2, a3, a4⟩ := q a (by rw [s1]; exact hz)
  exact ⟨a1.trans s1, a2.trans s2, fun f => ⟨(a3 f).1.trans (s3 f).1, (a3 f).2.trans (s3 f).2⟩, fun k i hi => ⟨(a4 k i).1.trans (s4 k i hi).1, (a4 k i).2.trans (s4 k i hi).2⟩⟩
/-- the picture, the lists' contents told apart -/
def rcAllC (G : Nat × Nat × Nat) (F : Nat → Prop) (h0 : ZH) (A : ZA) (E : Nat → Nat) (h : ZH) (σ : ZS) (C : Nat → List Nat) (cb b : Nat) : Prop := rcBook A h σ cb b ∧ ¬ F b ∧ rcHome G h cb ∧ (∀ p, p < sn σ 2 → rcPers A h σ p) ∧ (∀ g, g < sn σ 1 → rcGrave A h σ g) ∧ (∀ f, f < sn σ 0 → rcField A h σ cb f) ∧ (∀ j, rcLive σ j → zL h (A 5 j) (E j) (C j)) ∧ (∀ p, p < sn σ 2 → ∀ k, k < (sy σ p).length → rcStay A h σ p k) ∧ rcApart F A E h σ ∧ ∀ a, F a → zt h0 a ≠ 0 ∧ zSm h0 h a
theorem rcAll.toC (R : rcAll G F h0 A E h σ cb b) : rcAllC G F h0 A E h σ (rcCon A σ) cb b := R
theorem rcAllC.all (R : rcAllC G F h0 A E h σ C cb b) (hC : ∀ j, rcLive σ j → C j = rcCon A σ j) : rcAll G F h0 A E h σ cb b := by
  obtain ⟨B, nb, Hm, P, Gv, Fd, L, St, Ap, Pr⟩ := R
  exact ⟨B, nb, Hm, P, Gv, Fd, fun j hj => by rw [← hC j hj]; exact L j hj, St, Ap, Pr⟩
theorem rcAllC.fr (R : rcAllC G F h0 A E h σ C cb b) (q : zFr h h') : rcAllC G F h0 A E h' σ C cb b := by
  have K := q.K
  obtain ⟨B, nb, Hm, P, Gv, Fd, L, St, Ap, Pr⟩ := R
  obtain ⟨a1, a2, a3, a4, a5, a6, a7, a8, a9⟩ := Ap
  have zle : ∀ j, rcLive σ j → zl h' (E j) = zl h (E j) := fun j hj => (q _ (L j hj).ne.2.1).2.1
  exact ⟨B.kp K, nb, Hm.kp K, fun p hp => (P p hp).kp K, fun g hg => (Gv g hg).kp K, fun f hf => (Fd f hf).kp K Hm, fun j hj => (L j hj).fr q, fun p hp k hk => (St p hp k hk).kp K, ⟨a1, a2, a3, fun i j hi hj he => by rw [zle i hi]; exact a4 i j hi hj he, fun i hi => by rw [zle i hi]; exact a5 i hi, a6, a7, a8, a9⟩, fun a ha => ⟨(Pr a ha).1, (Pr a ha).2.fr (Pr a ha).1 q⟩⟩
theorem rc_fr (R : rcAll G F h0 A E h σ cb b) (q : zFr h h') : rcAll G F h0 A E h' σ cb b := (R.toC.fr q).all fun _ _ => rfl
def upC (C : Nat → List Nat) (j : Nat) (l : List Nat) : Nat → List Nat := fun i => if i = j then l else C i
theorem upC_eq {i j : Nat} {l : List Nat} (q : i = j) : upC C j l i = l := if_pos q
theorem upC_ne {i j : Nat} {l : List Nat} (q : ¬ i = j) : upC C j l i = C i := if_neg q
theorem rc_LC (R : rcAllC G F h0 A E h σ C cb b) {j e' : Nat} {l' : List Nat} (lj : rcLive σ j) (hL : zL h' (A 5 j) e' l') (hA : zA h h' (A 5 j) (E j) e') : rcAllC G F h0 A (upE E j e') h' σ (upC C j l') cb b := by
  obtain ⟨B, nb, Hm, P, Gv, Fd, Ls, St, Ap, Pr⟩ := R
  obtain ⟨a1, a2, a3, a4, a5, a6, a7, a8, a9⟩ := Ap
  have K := hA.1
  have Lj := Ls j lj
  have old : ∀ i, rcLive σ i → zt h (E i) ≠ 0 := fun i hi => (Ls i hi).ne.2.1
  have he' : e' = E j ∨ zt h e' = 0 := hA.2.2.2
  have nF' : ∀ a, F a → zt h a ≠ 0 := fun a ha => by rw [(Pr a ha).2.1]; exact (Pr a ha).1
  have zl' : ∀ i, rcLive σ i → zl h' (E i) = zl h (E i) := fun i hi => (K _ (old i hi)).2.1
  refine ⟨B.kp K, nb, Hm.kp K, fun p hp => (P p hp).kp K, fun g hg => (Gv g hg).kp K, fun f hf => (Fd f hf).kp K Hm, fun i hi => ?_, fun p hp i hi => (St p hp i hi).kp K, ⟨a1, a2, a3, fun i m hi hm he => ?_, fun i hi => ?_, a6, a7, a8, a9⟩, fun a ha => ?_⟩
  · by_cases hij : i = j
    · subst hij
      rw [upE_eq rfl, upC_eq rfl]; exact hL
    · rw [upE_ne hij, upC_ne hij]
      refine (Ls i hi).kept hA (fun q => hij (a2 i j hi lj q)) ?_
      by_cases hee : E i = E j
      · right
        rcases a4 i j hi lj hee with q | q
        · exact absurd q hij
        · have h5 := (Ls i hi).2.2.2.2.1
          exact List.eq_nil_of_length_eq_zero (by omega)
      · exact Or.inl hee
  · by_cases hij : i = j
    · by_cases hmj : m = j
      · exact Or.inl (hij.trans hmj.symm)
      · rw [upE_eq hij, upE_ne hmj] at he
        rw [upE_eq hij]
        rcases he' with q | q
        · rcases a4 j m lj hm (q.symm.trans he) with w | w
          · exact absurd w.symm hmj
          · right; rw [q, zl' j lj]; exact w
        · exact absurd (he ▸ q) (old m hm)
    · by_cases hmj : m = j
      · rw [upE_ne hij, upE_eq hmj] at he
        rw [upE_ne hij]
        rcases he' with q | q
        · rcases a4 i j hi lj (he.trans q) with w | w
          · exact absurd w hij
          · right; rw [zl' i hi]; exact w
        · exact absurd (he ▸ q) (old i hi)
      · rw [upE_ne hij, upE_ne hmj] at he
        rw [upE_ne hij, zl' i hi]
        exact a4 i m hi hm he
  · by_cases hij : i = j
    · rw [upE_eq hij]
      rcases he' with q | q
      · rw [q, zl' j lj]; exact a5 j lj
      · exact Or.inl (fun w => nF' _ w q)
    · rw [upE_ne hij, zl' i hi]; exact a5 i hi
  · obtain ⟨p1, p2, p3, p4, p5⟩ := Pr a ha
    have hz := nF' a ha
    obtain ⟨k1, k2, k3, k4, k5⟩ := K a hz
    have hne : a ≠ A 5 j := fun q => a3 j lj (q ▸ ha)
    refine ⟨p1, k1.trans p2, k2.trans p3, fun f => ⟨(hA.2.1 a hz hne f).1.trans (p4 f).1, (hA.2.1 a hz hne f).2.trans (p4 f).2⟩, fun k i hi => ⟨(k4 k i).trans (p5 k i hi).1, ?_⟩⟩
    by_cases hk2 : k = 2
    · subst hk2
      rw [hA.2.2.1 a i hz (fun q => ?_)]
      · exact (p5 2 i hi).2
      · rcases a5 j lj with w | w
        · exact w (q ▸ ha)
        · rw [← q, p3] at w; omega
    · exact (k5 k i hk2).trans (p5 k i hi).2
/-- what can stand in a place -/
def sSpot (n : Nat) (x : Int32) : Prop := x = 0 ∨ x = 1 ∨ x = 2 ∨ ∃ g, g < n ∧ x = nI (10 + g)
/-- all references are numbers of what there is -/
def sRef (σ : ZS) : Prop := sWF σ ∧ (∀ g, g < sn σ 1 → (∀ p ∈ sl σ 0 g, p < sn σ 2) ∧ ∀ p ∈ sl σ 1 g, p < sn σ 2) ∧ (∀ p, p < sn σ 2 → ∀ x ∈ sy σ p, sOk (sn σ 1) x.2) ∧ (∀ r, rcRowLive σ r → ∀ k, k < (sa σ 6 r).toNatClampNeg → sSpot (sn σ 1) (sa σ 8 (30 * r + k))) ∧ (∀ k, sn σ k ≤ 40) ∧ ∀ p, p < sn σ 2 → (sy σ p).length ≤ 64
/-- the attributes that tell of something there is -/
def sLiveA (σ : ZS) (k i : Nat) : Prop := (700 ≤ k ∧ i < sn σ 2) ∨ (600 ≤ k ∧ k < 700 ∧ i < sn σ 1) ∨ (k = 10 ∧ i < sn σ 1) ∨ (k = 20 ∧ i / 150 < sn σ 1 ∧ ¬ sa σ 613 (i / 150) = -1) ∨ ((k = 500 ∨ k = 502) ∧ i < sn σ 0) ∨ (k = 501 ∧ i / 12 < sn σ 0 ∧ i % 12 < (sa σ 502 (i / 12)).toNatClampNeg) ∨ ((k = 5 ∨ k = 6) ∧ rcRowLive σ i) ∨ (k = 8 ∧ rcRowLive σ (i / 30)) ∨ k = 203 ∨ k = 204
/-- the addresses that are of something there is -/
def sIdx (σ : ZS) (k i : Nat) : Prop := (k = 0 ∧ i < sn σ 2) ∨ (k = 1 ∧ i < sn σ 1) ∨ (k = 2 ∧ i < sn σ 0) ∨ (k = 7 ∧ i < sn σ 0) ∨ (k = 3 ∧ rcRowLive σ i) ∨ (k = 4 ∧ i < sn σ 1 ∧ ¬ sa σ 613 i = -1) ∨ (k = 5 ∧ rcLive σ i) ∨ (k = 8 ∧ i / 1000 < sn σ 2 ∧ i % 1000 < (sy σ (i / 1000)).length)
theorem rfx_ag {n : Nat} {ad ad' : Nat → Nat} {x : Int32} (hn : n < 2 ^ 31) (h : sOk n x) (ha : ∀ i, i < n → ad' i = ad i) : rfx ad' x = rfx ad x := by
  rcases h with rfl | ⟨j, hj, rfl⟩
  · rfl
  · rw [rfx_some _ (by omega), rfx_some _ (by omega), ha j hj]
theorem rcSpot_ag {n : Nat} {x : Int32} (hn : n ≤ 64) (hx : sSpot n x) (ha : ∀ i, i < n → A' 1 i = A 1 i) : rcSpot A' h cb x = rcSpot A h cb x := by
  unfold rcSpot
  rcases hx with rfl | rfl | rfl | ⟨g, hg, rfl⟩
  · rfl
  · rfl
  · rfl
  · have e : nI (10 + g) - 10 = nI g := by
      have := zs_sub (a := 10 + g) (b := 10) (by omega)
      rw [show (10 + g) - 10 = g by omega] at this
      exact this
    rw [e, rfx_some _ (by omega), rfx_some _ (by omega), ha g hg]
theorem rc_szC (R : rcAllC G F h0 A E h σ C cb b) (j : Nat) (hj : rcLive σ j) : (C j).length ≤ 64 := by
  have L2 := R.2.2.2.2.2.2.1 j hj
  have := L2.2.2.2.2.1; have := L2.2.2.2.2.2.1; omega
/-- another way of telling the same -/
def rcAg (σ σ' : ZS) (A A' : ZA) (E E' : Nat → Nat) : Prop := (∀ k, sn σ' k = sn σ k) ∧ (∀ k i, sLiveA σ k i → sa σ' k i = sa σ k i) ∧ (∀ k g, g < sn σ 1 → sl σ' k g = sl σ k g) ∧ (∀ p, p < sn σ 2 → sy σ' p = sy σ p) ∧ (∀ k i, sIdx σ k i → A' k i = A k i) ∧ ∀ j, rcLive σ j → E' j = E j
theorem rcAg.live (g : rcAg σ σ' A A' E E') (j : Nat) : rcLive σ' j ↔ rcLive σ j := by
  unfold rcLive
  rw [g.1, g.1]
theorem rcAg.row (g : rcAg σ σ' A A' E E') (r : Nat) : rcRowLive σ' r ↔ rcRowLive σ r := by
  obtain ⟨hn, hs, -⟩ := g
  unfold rcRowLive
  rw [hn]
  refine ⟨fun q => ?_, fun q => ?_⟩
  · obtain ⟨q1, q2, q3⟩ := q
    rw [hs 502 _ (by unfold sLiveA; omega)] at q2
    rw [hs 501 _ (by unfold sLiveA; omega)] at q3
    exact ⟨q1, q2, q3⟩
  · obtain ⟨q1, q2, q3⟩ := q
    refine ⟨q1, by rw [hs 502 _ (by unfold sLiveA; omega)]; exact q2, by rw [hs 501 _ (by unfold sLiveA; omega)]; exact q3⟩
theorem rcAg.con (g : rcAg σ σ' A A' E E') (W : sRef σ) {j : Nat} (hj : rcLive σ j) : rcCon A' σ' j = rcCon A σ j := by
  obtain ⟨hn, hs, hl, hy, hA, hE⟩ := g
  obtain ⟨w1, w2, w3, w4, w5, w6⟩ := W
  unfold rcCon
  have mp : ∀ (k : Nat) (l : List Nat), (∀ x ∈ l, sIdx σ k x) → l.map (A' k) = l.map (A k) := fun k l hx => List.map_congr_left fun x hxl => hA k x (hx x hxl)
  by_cases h1 : j = 0
  · rw [if_pos h1, if_pos h1, hn]
    exact mp 2 _ fun x hx => by unfold sIdx; have := List.mem_range.mp hx; omega
  rw [if_neg h1, if_neg h1]
  by_cases h2 : j = 1
  · rw [if_pos h2, if_pos h2, hn]
    exact mp 1 _ fun x hx => by unfold sIdx; have := List.mem_range.mp hx; omega
  rw [if_neg h2, if_neg h2]
  by_cases h3 : j = 2
  · rw [if_pos h3, if_pos h3, hn]
    exact mp 0 _ fun x hx => by unfold sIdx; have := List.mem_range.mp hx; omega
  rw [if_neg h3, if_neg h3]
  unfold rcLive at hj
  by_cases h4 : j % 3 = 0
  · rw [if_pos h4, if_pos h4]
    have hp : (j - 3) / 3 < sn σ 2 := by omega
    rw [hy _ hp]
    refine List.map_congr_left fun x hx => hA 8 _ ?_
    have hx := List.mem_range.mp hx
    have := w6 _ hp
    have e1 : (1000 * ((j - 3) / 3) + x) / 1000 = (j - 3) / 3 := by omega
    have e2 : (1000 * ((j - 3) / 3) + x) % 1000 = x := by omega
    unfold sIdx
    rw [e1, e2]
    exact Or.inr (Or.inr (Or.inr (Or.inr (Or.inr (Or.inr (Or.inr ⟨rfl, hp, hx⟩))))))
  rw [if_neg h4, if_neg h4]
  by_cases h5 : j % 3 = 1
  · rw [if_pos h5, if_pos h5]
    have hg : (j - 4) / 3 < sn σ 1 := by omega
    rw [hl 0 _ hg]
    exact mp 0 _ fun x hx => Or.inl ⟨rfl, (w2 _ hg).1 x hx⟩
  · rw [if_neg h5, if_neg h5]
    have hg : (j - 5) / 3 < sn σ 1 := by omega
    rw [hl 1 _ hg]
    exact mp 0 _ fun x hx => Or.inl ⟨rfl, (w2 _ hg).2 x hx⟩
theorem rc_ag (g : rcAg σ σ' A A' E E') (W : sRef σ) (R : rcAllC G F h0 A E h σ C cb b) : rcAllC G F h0 A' E' h σ' C cb b := by
  have glive := g.live
  have grow := g.row
  obtain ⟨hn, hs, hl, hy, hA, hE⟩ := g
  obtain ⟨⟨w1, w1'⟩, w2, w3, w4, w5, w6⟩ := W
  obtain ⟨B, nb, Hm, P, Gv, Fd, L, St, Ap, Pr⟩ := R
  have i0 : ∀ i, i < sn σ 2 → A' 0 i = A 0 i := fun i hi => hA 0 i (Or.inl ⟨rfl, hi⟩)
  have i1 : ∀ i, i < sn σ 1 → A' 1 i = A 1 i := fun i hi => hA 1 i (Or.inr (Or.inl ⟨rfl, hi⟩))
  have i2 : ∀ i, i < sn σ 0 → A' 2 i = A 2 i := fun i hi => hA 2 i (by unfold sIdx; omega)
  have i7 : ∀ i, i < sn σ 0 → A' 7 i = A 7 i := fun i hi => hA 7 i (by unfold sIdx; omega)
  have i3 : ∀ i, rcRowLive σ i → A' 3 i = A 3 i := fun i hi => hA 3 i (Or.inr (Or.inr (Or.inr (Or.inr (Or.inl ⟨rfl, hi⟩)))))
  have i4 : ∀ i, i < sn σ 1 → ¬ sa σ 613 i = -1 → A' 4 i = A 4 i := fun i hi h1 => hA 4 i (Or.inr (Or.inr (Or.inr (Or.inr (Or.inr (Or.inl ⟨rfl, hi, h1⟩))))))
  have i5 : ∀ i, rcLive σ i → A' 5 i = A 5 i := fun i hi => hA 5 i (Or.inr (Or.inr (Or.inr (Or.inr (Or.inr (Or.inr (Or.inl ⟨rfl, hi⟩)))))))
  have n2 := w5 2
  have n1 := w5 1
  have sP : ∀ f p, 700 ≤ f → p < sn σ 2 → sa σ' f p = sa σ f p := fun f p hf hp => hs f p (Or.inl ⟨hf, hp⟩)
  have sG : ∀ f p, 600 ≤ f → f < 700 → p < sn σ 1 → sa σ' f p = sa σ f p := fun f p hf hf2 hp => hs f p (Or.inr (Or.inl ⟨hf, hf2, hp⟩))
  refine ⟨?_, nb, Hm, fun p hp => ?_, fun q hq => ?_, fun f hf => ?_, fun j hj => ?_, fun p hp k hk => ?_, ?_, Pr⟩
  · obtain ⟨b1, b2, b3, b4, b5, b6, b7⟩ := B
    refine ⟨b1, by rw [hs 203 0 (by unfold sLiveA; omega)]; exact b2, by rw [hs 204 0 (by unfold sLiveA; omega)]; exact b3, ?_, ?_, ?_, b7⟩
    · rw [i5 0 (by unfold rcLive; omega)]; exact b4
    · rw [i5 1 (by unfold rcLive; omega)]; exact b5
    · rw [i5 2 (by unfold rcLive; omega)]; exact b6
  · rw [hn] at hp
    obtain ⟨p1, p2, p3, p4, p5⟩ := P p hp
    unfold rcPers
    rw [i0 p hp, i5 (3 + 3 * p) (by unfold rcLive; omega)]
    refine ⟨p1, fun f hf => ?_, fun f hf => ?_, ?_, p5⟩
    · rw [sP f p (by simp [rcPi] at hf; omega) hp]; exact p2 f hf
    · rw [sP f p (by simp [rcPr] at hf; omega) hp, rfx_ag (by omega) ((w1 p hp).1 f hf) i0]; exact p3 f hf
    · rw [sP 710 p (by omega) hp, rfx_ag (by omega) (w1 p hp).2 i1]; exact p4
  · rw [hn] at hq
    obtain ⟨g1, g2, g3, g4, g5, g6⟩ := Gv q hq
    unfold rcGrave
    rw [i1 q hq, i5 (4 + 3 * q) (by unfold rcLive; omega), i5 (5 + 3 * q) (by unfold rcLive; omega), hs 10 q (by unfold sLiveA; omega)]
    refine ⟨g1, fun f hf => ?_, fun f hf => ?_, g4, g5, ?_⟩
    · rw [sG f q (by simp [rcGi] at hf; omega) (by simp [rcGi] at hf; omega) hq]; exact g2 f hf
    · rw [sG f q (by simp [rcGr] at hf; omega) (by simp [rcGr] at hf; omega) hq, rfx_ag (by omega) (w1' q hq f hf) i0]; exact g3 f hf
    · rw [sG 613 q (by omega) (by omega) hq]
      refine g6.imp id fun w => ?_
      obtain ⟨v1, v2, v3, v4, v5⟩ := w
      have h61 : ¬ sa σ 613 q = -1 := by rw [v2]; exact fun y => nI_pos (by omega : q < 2 ^ 31) (y ▸ (by decide : (-1 : Int32) < 0))
      rw [i4 q hq h61]
      refine ⟨v1, v2, v3, v4, fun p hp => ?_⟩
      rw [hs 20 _ (by unfold sLiveA; rw [show (150 * q + p) / 150 = q by omega]; exact Or.inr (Or.inr (Or.inr (Or.inl ⟨rfl, hq, h61⟩))))]
      exact v5 p hp
  · rw [hn] at hf
    obtain ⟨f1, f2, f3, f4, f5, f6, n, f7, f8, f9⟩ := Fd f hf
    unfold rcField
    rw [i2 f hf, i7 f hf, hs 500 f (by unfold sLiveA; omega), hs 502 f (by unfold sLiveA; omega)]
    refine ⟨f1, f2, f3, f4, f5, f6, n, f7, f8, fun i hi => ?_⟩
    have e1 : (12 * f + i) / 12 = f := by omega
    have e2 : (12 * f + i) % 12 = i := by omega
    have hm : i < (sa σ 502 f).toNatClampNeg := by rw [f8, nI_clamp (by omega)]; exact hi
    rw [hs 501 (12 * f + i) (by unfold sLiveA; rw [e1, e2]; exact Or.inr (Or.inr (Or.inr (Or.inr (Or.inr (Or.inl ⟨rfl, hf, hm⟩))))))]
    refine (f9 i hi).imp id fun w => ?_
    obtain ⟨v1, v2, r1, r2, r3, r4⟩ := w
    have hr : rcRowLive σ (12 * f + i) := by unfold rcRowLive; rw [e1, e2]; exact ⟨hf, hm, v1⟩
    unfold rcRow
    rw [i3 _ hr, hs 5 _ (Or.inr (Or.inr (Or.inr (Or.inr (Or.inr (Or.inr (Or.inl ⟨Or.inl rfl, hr⟩))))))), hs 6 _ (Or.inr (Or.inr (Or.inr (Or.inr (Or.inr (Or.inr (Or.inl ⟨Or.inr rfl, hr⟩)))))))]
    refine ⟨v1, v2, r1, r2, r3, fun m hm2 => ?_⟩
    have e3 : (30 * (12 * f + i) + m) / 30 = 12 * f + i := by omega
    rw [hs 8 _ (by unfold sLiveA; rw [e3]; exact Or.inr (Or.inr (Or.inr (Or.inr (Or.inr (Or.inr (Or.inr (Or.inl ⟨rfl, hr⟩)))))))), rcSpot_ag (by omega) (w4 _ hr m (by rw [← r2, nI_clamp (by omega)]; exact hm2)) i1]
    exact r4 m hm2
  · rw [glive j] at hj
    rw [i5 j hj, hE j hj]; exact L j hj
  · rw [hn] at hp
    rw [hy p hp] at hk
    have hk40 := w6 p hp
    obtain ⟨s1, d, t, s2, s3, s4⟩ := St p hp k hk
    have e1 : (1000 * p + k) / 1000 = p := by omega
    have e2 : (1000 * p + k) % 1000 = k := by omega
    unfold rcStay
    rw [hA 8 (1000 * p + k) (by unfold sIdx; rw [e1, e2]; exact Or.inr (Or.inr (Or.inr (Or.inr (Or.inr (Or.inr (Or.inr ⟨rfl, hp, hk⟩))))))), hy p hp]
    have ht : sOk (sn σ 1) t := w3 p hp (d, t) (List.mem_of_getElem? s2)
    exact ⟨s1, d, t, s2, s3, by rw [rfx_ag (by omega) ht i1]; exact s4⟩
  · obtain ⟨a1, a2, a3, a4, a5, a6, a7, a8, a9⟩ := Ap
    refine ⟨fun k n hk => ?_, fun i j hi hj he => ?_, fun i hi => ?_, fun i j hi hj he => ?_, fun i hi => ?_, fun i j hi hj he => ?_, fun i hi => ?_, fun i j hi hj h1 h2 he => ?_, fun i hi h1 => ?_⟩
    · have hk' : k = 0 ∧ n = sn σ 2 ∨ k = 1 ∧ n = sn σ 1 ∨ k = 2 ∧ n = sn σ 0 ∨ k = 7 ∧ n = sn σ 0 := by rw [hn, hn, hn] at hk; exact hk
      have ek : ∀ i, i < n → A' k i = A k i := fun i hi => hA k i (by unfold sIdx; omega)
      obtain ⟨u1, u2⟩ := a1 k n hk'
      exact ⟨fun i j hi hj he => u1 i j hi hj (by rw [← ek i hi, ← ek j hj]; exact he), fun i hi => by rw [ek i hi]; exact u2 i hi⟩
    · rw [glive] at hi hj
      rw [i5 i hi, i5 j hj] at he
      exact a2 i j hi hj he
    · rw [glive] at hi
      rw [i5 i hi]; exact a3 i hi
    · rw [glive] at hi hj
      rw [hE i hi, hE j hj] at he
      rw [hE i hi]; exact a4 i j hi hj he
    · rw [glive] at hi
      rw [hE i hi]; exact a5 i hi
    · rw [grow] at hi hj
      rw [i3 i hi, i3 j hj] at he
      exact a6 i j hi hj he
    · rw [grow] at hi
      rw [i3 i hi]; exact a7 i hi
    · rw [hn] at hi hj
      rw [sG 613 i (by omega) (by omega) hi] at h1
      rw [sG 613 j (by omega) (by omega) hj] at h2
      rw [i4 i hi h1, i4 j hj h2] at he
      exact a8 i j hi hj h1 h2 he
    · rw [hn] at hi
      rw [sG 613 i (by omega) (by omega) hi] at h1
      rw [i4 i hi h1]; exact a9 i hi h1
end ZMO
