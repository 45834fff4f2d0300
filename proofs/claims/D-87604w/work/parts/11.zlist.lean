/-! LISTS of the component, in plain terms: what ArrayList's methods do to the picture. No program in sight. -/
set_option maxRecDepth 100000
/-- all but lists and their elements is as it was, where something was -/
def zK (h h' : ZH) : Prop := ∀ b, zt h b ≠ 0 → zt h' b = zt h b ∧ zl h' b = zl h b ∧ (∀ f, f < 300 ∨ 303 ≤ f → zi h' f b = zi h f b ∧ zr h' f b = zr h f b) ∧ (∀ k i, zj h' k b i = zj h k b i) ∧ ∀ k i, k ≠ 2 → zs h' k b i = zs h k b i
theorem zK.rf {h : ZH} : zK h h := fun _ _ => ⟨rfl, rfl, fun _ _ => ⟨rfl, rfl⟩, fun _ _ => rfl, fun _ _ _ => rfl⟩
theorem zK.tr {h h1 h2 : ZH} (a : zK h h1) (b : zK h1 h2) : zK h h2 := by
  intro c hc
  obtain ⟨a1, a2, a3, a4, a5⟩ := a c hc
  obtain ⟨b1, b2, b3, b4, b5⟩ := b c (by rw [a1]; exact hc)
  exact ⟨b1.trans a1, b2.trans a2, fun f hf => ⟨(b3 f hf).1.trans (a3 f hf).1, (b3 f hf).2.trans (a3 f hf).2⟩, fun k i => (b4 k i).trans (a4 k i), fun k i hk => (b5 k i hk).trans (a5 k i hk)⟩
/-- the list at a, its elements in the array at e -/
def zL (h : ZH) (a e : Nat) (l : List Nat) : Prop := zt h a = 5 ∧ zi h 302 a = nI l.length ∧ zr h 301 a = some e ∧ zt h e = 22 ∧ l.length ≤ zl h e ∧ zl h e ≤ 64 ∧ (∀ i, i < l.length → zs h 2 e i = l[i]?) ∧ ∀ x ∈ l, zt h x ∈ zas 2
/-- the list at a was touched, and its array e, if it isn't another now -/
def zA (h h' : ZH) (a e e' : Nat) : Prop := zK h h' ∧ (∀ b, zt h b ≠ 0 → b ≠ a → ∀ f, zi h' f b = zi h f b ∧ zr h' f b = zr h f b) ∧ (∀ b i, zt h b ≠ 0 → b ≠ e → zs h' 2 b i = zs h 2 b i) ∧ (e' = e ∨ zt h e' = 0)
theorem zL.ne {h : ZH} {a e : Nat} {l : List Nat} (k : zL h a e l) : zt h a ≠ 0 ∧ zt h e ≠ 0 ∧ a ≠ e := by
  obtain ⟨k1, k2, k3, k4, -⟩ := k
  exact ⟨by omega, by omega, fun q => by rw [q] at k1; omega⟩
theorem zL.kept {h h' : ZH} {a e e' a2 e2 : Nat} {l2 : List Nat} (k : zL h a2 e2 l2) (hA : zA h h' a e e') (h1 : a2 ≠ a) (h2 : e2 ≠ e ∨ l2 = []) : zL h' a2 e2 l2 := by
  obtain ⟨n1, n2, n3⟩ := k.ne
  obtain ⟨k1, k2, k3, k4, k5, k6, k7, k8⟩ := k
  obtain ⟨aK, a1, a2', a3⟩ := hA
  have ha := aK a2 n1
  have he := aK e2 n2
  refine ⟨ha.1.trans k1, (a1 a2 n1 h1 302).1.trans k2, (a1 a2 n1 h1 301).2.trans k3, he.1.trans k4, by rw [he.2.1]; exact k5, by rw [he.2.1]; exact k6, fun i hi => ?_, fun x hx => ?_⟩
  · rcases h2 with h2 | h2
    · rw [a2' e2 i n2 h2]; exact k7 i hi
    · rw [h2] at hi; exact absurd hi (Nat.not_lt_zero i)
  · have h8 := k8 x hx
    have hx0 : zt h x ≠ 0 := fun q => by rw [q] at h8; simp [zas] at h8
    rw [(aK x hx0).1]; exact h8
theorem zs_shr1 : ∀ n, n ≤ 64 → nI n >>> ((1 : Int32) &&& 31) = nI (n / 2) := by decide +kernel
theorem zs_sub {a b : Nat} (h : b ≤ a) : nI a - nI b = nI (a - b) := by
  have h1 : nI (a - b) + nI b = nI a := by rw [nI_add, Nat.sub_add_cancel h]
  rw [← h1]
  apply Int32.toBitVec_inj.mp
  simp
theorem zs_vp {i n : Nat} (h : i < n) (hn : n < 2 ^ 31) : vp_in (nI i) n := nI_in h hn
/-- what copyOf does: a new array, longer -/
theorem zl_copyOf {G : Nat × Nat × Nat} {Q : Option Nat → ZH → Prop} {h : ZH} {bc bs e n : Nat} (he : zt h e = 22) (hel : ∀ i, i < zl h e → ∀ y, zs h 2 e i = some y → zt h y ∈ zas 2) (h1 : zl h e ≤ n) (h0 : 0 < n) (h64 : n ≤ 64) (hc : 1 ≤ bc) (hs : 64 ≤ bs)
    (hQ : ∀ e' h', zt h e' = 0 → zt h' e' = 22 → zl h' e' = n → (∀ i, i < zl h e → zs h' 2 e' i = zs h 2 e i) → (∀ b, b ≠ e' → zt h' b = zt h b ∧ zl h' b = zl h b ∧ (∀ k i, zj h' k b i = zj h k b i) ∧ ∀ k i, zs h' k b i = zs h k b i) → (∀ f b, zi h' f b = zi h f b ∧ zr h' f b = zr h f b) → Q (some e') h') : fc_J7_copyOf G Q h bc bs (some e) (nI n) := by
  have hn31 : n < 2 ^ 31 := by omega
  refine ⟨e, rfl, he, bc, bs, Nat.le_refl _, Nat.le_refl _, ?_⟩
  refine ⟨fun w => absurd rfl w, fun _ => ⟨nI_pos hn31, by rw [nI_clamp hn31]; omega, hc, by rw [nI_clamp hn31]; omega, fun e' h2 hz e2 => ?_⟩⟩
  rw [nI_clamp hn31] at e2
  have hne : e ≠ e' := fun q => by rw [q] at he; omega
  have hee : zt h2 e = 22 := by rw [e2, zt_arr, if_neg hne]; exact he
  have hle : zl h2 e = zl h e := by rw [e2, zl_arr, if_neg hne]
  have hee' : zt h2 e' = 22 := by rw [e2, zt_arr, if_pos rfl]
  have hle' : zl h2 e' = n := by rw [e2, zl_arr, if_pos rfl]
  refine ⟨e, rfl, by rw [hee]; decide, ?_⟩
  have hmin : ∀ Q' : Int32 → Prop, Q' (nI (zl h e)) → fc_J6_min G Q' h2 (nI (zl h2 e)) (nI n) := by
    intro Q' hq
    rw [hle]
    exact ⟨fun w => absurd w (nI_nlt h1 hn31), fun _ => hq⟩
  refine hmin _ ⟨e', rfl, hee, hee', by rw [hle']; exact h0, ⟨by decide, by decide, nI_pos (by omega), ?_, ?_⟩, ?_, ?_⟩
  · rw [nI_clamp (by omega : zl h e < 2 ^ 31), hle]; show 0 + _ ≤ _; omega
  · rw [nI_clamp (by omega : zl h e < 2 ^ 31), hle']; show 0 + _ ≤ _; omega
  · intro i hi y hy
    rw [nI_clamp (by omega : zl h e < 2 ^ 31)] at hi
    have hy : zs h2 2 e (0 + i) = some y := hy
    rw [e2, zs_arr, if_neg hne, Nat.zero_add] at hy
    have h8 := hel i hi y hy
    have hy0 : y ≠ e' := fun q => by rw [q, hz] at h8; simp [zas] at h8
    rw [e2, zt_arr, if_neg hy0]; exact h8
  · intro h4 e4
    rw [nI_clamp (by omega : zl h e < 2 ^ 31)] at e4
    have e4 : h4 = zcps h2 2 e 0 e' 0 (zl h e) := e4
    refine hQ e' h4 hz ?_ ?_ ?_ ?_ ?_
    · rw [e4, zt_cps]; exact hee'
    · rw [e4, zl_cps]; exact hle'
    · intro i hi
      rw [e4, zs_cps, if_pos ⟨rfl, rfl, Nat.zero_le _, by omega⟩, e2, zs_arr, if_neg hne]
      congr 1; omega
    · intro b hb
      refine ⟨?_, ?_, fun k i => ?_, fun k i => ?_⟩
      · rw [e4, zt_cps, e2, zt_arr, if_neg hb]
      · rw [e4, zl_cps, e2, zl_arr, if_neg hb]
      · rw [e4, zj_cps, e2, zj_arr, if_neg hb]
      · rw [e4, zs_cps, if_neg (fun q => hb q.2.1), e2, zs_arr, if_neg hb]
    · intro f b
      rw [e4, zi_cps, zr_cps, e2, zi_arr, zr_arr]; exact ⟨rfl, rfl⟩
/-- what grow does to a list that is full -/
theorem zl_grow {G : Nat × Nat × Nat} {Q : Option Nat → ZH → Prop} {h : ZH} {bc bs a e n : Nat} (ha : zt h a = 5) (hr : zr h 301 a = some e) (he : zt h e = 22) (hi : zi h 302 a = nI n) (hn : zl h e = n) (h40 : n ≤ 40) (hel : ∀ i, i < n → ∀ y, zs h 2 e i = some y → zt h y ∈ zas 2) (hc : 1 ≤ bc) (hs : 64 ≤ bs)
    (hQ : ∀ e' h', zt h e' = 0 → zt h' e' = 22 → n < zl h' e' → zl h' e' ≤ 64 → (∀ i, i < n → zs h' 2 e' i = zs h 2 e i) → (∀ b, b ≠ e' → zt h' b = zt h b ∧ zl h' b = zl h b ∧ (∀ k i, zj h' k b i = zj h k b i) ∧ ∀ k i, zs h' k b i = zs h k b i) → (∀ f b, b ≠ a ∨ f ≠ 301 → zi h' f b = zi h f b ∧ zr h' f b = zr h f b) → zi h' 302 a = nI n → zr h' 301 a = some e' → Q (some e') h') : fc_J2_grow G a Q h bc bs := by
  refine ⟨by rw [ha]; decide, ha, bc, bs, Nat.le_refl _, Nat.le_refl _, by rw [ha]; decide, e, hr, by rw [he]; decide, fun x2 e2 => ?_⟩
  rw [hn] at e2
  rw [hi]
  subst e2
  have back : fc_J2_grow_2_20 G a (fun r3 h4 => Q r3 h4) h bc bs (nI n + 1) (nI n) := by
    unfold fc_J2_grow_2_20 fc_J5_newLength
    rw [zs_shr1 n (by omega), nI_1, zs_sub (by omega : n ≤ n + 1), show n + 1 - n = 1 by omega]
    have hmax : ∀ Q' : Int32 → Prop, Q' (nI (max 1 (n / 2))) → fc_J6_max G Q' h (nI 1) (nI (n / 2)) := by
      intro Q' hq
      refine ⟨fun w => ?_, fun w => ?_⟩
      · have h9 := (nI_ltI (by omega) (by omega)).mp w
        rw [show max 1 (n / 2) = n / 2 by omega] at hq
        exact hq
      · have h9 : ¬ 1 < n / 2 := fun q => w (nI_lt q (by omega))
        rw [show max 1 (n / 2) = 1 by omega] at hq
        exact hq
    refine hmax _ fun x2 e2 => ?_
    rw [nI_add] at e2
    subst e2
    generalize hN : n + max 1 (n / 2) = N
    have hN1 : n < N := by omega
    have hN2 : N ≤ 64 := by omega
    refine ⟨fun w => absurd w (nI_nle (by omega) (by omega)), fun _ => ⟨fun w => absurd w (nI_nlt (a := 2147483639) (by omega) (by omega)), fun _ => ?_⟩⟩
    refine ⟨by rw [ha]; decide, bc, bs, Nat.le_refl _, Nat.le_refl _, ?_⟩
    rw [hr]
    refine zl_copyOf he (by rw [hn]; exact hel) (by omega) (by omega) hN2 hc hs fun e' h' hz k1 k2 k3 k4 k5 => ⟨?_, fun h6 e6 => ?_⟩
    · have hae : a ≠ e' := fun q => by rw [q, hz] at ha; omega
      rw [(k4 a hae).1, ha]; decide
    · have hae : a ≠ e' := fun q => by rw [q, hz] at ha; omega
      refine hQ e' h6 hz ?_ ?_ ?_ ?_ ?_ ?_ ?_ ?_
      · rw [e6, zt_pr]; exact k1
      · rw [e6, zl_pr, k2]; exact hN1
      · rw [e6, zl_pr, k2]; exact hN2
      · intro i hi9
        rw [e6, zs_pr, k3 i (by rw [hn]; exact hi9)]
      · intro b hb
        obtain ⟨b1, b2, b3, b4⟩ := k4 b hb
        exact ⟨by rw [e6, zt_pr, b1], by rw [e6, zl_pr, b2], fun k i => by rw [e6, zj_pr, b3], fun k i => by rw [e6, zs_pr, b4]⟩
      · intro f b hfb
        rw [e6, zi_pr, zr_pr, if_neg (fun q => hfb.elim (fun w => w q.2) (fun w => w q.1))]
        exact k5 f b
      · rw [e6, zi_pr, (k5 302 a).1, hi]
      · rw [e6, zr_pr, if_pos ⟨rfl, rfl⟩]
  refine ⟨fun _ => back, fun hx => ⟨by rw [ha]; decide, fun hg => ?_, fun _ => back⟩⟩
  have hn0 : n = 0 := Classical.byContradiction fun q => hx (show nI 0 < nI n from nI_lt (by omega) (by omega))
  subst hn0
  have hmax : ∀ Q' : Int32 → Prop, Q' 10 → fc_J6_max G Q' h 10 (nI 0 + 1) := fun Q' hq => ⟨fun w => absurd w (by decide), fun _ => hq⟩
  refine hmax _ ⟨by decide, by decide, hc, Nat.le_trans (by decide) hs, fun e' h5 hz e5 => ?_⟩
  have hae : a ≠ e' := fun q => by rw [q, hz] at ha; omega
  have e5 : h5 = zarr h e' 2 10 := e5
  refine ⟨by rw [e5, zt_arr, if_neg hae, ha]; decide, fun h6 e6 => ?_⟩
  refine hQ e' h6 hz ?_ ?_ ?_ ?_ ?_ ?_ ?_ ?_
  · rw [e6, zt_pr, e5, zt_arr, if_pos rfl]
  · rw [e6, zl_pr, e5, zl_arr, if_pos rfl]; decide
  · rw [e6, zl_pr, e5, zl_arr, if_pos rfl]; decide
  · intro i hi9; exact absurd hi9 (Nat.not_lt_zero i)
  · intro b hb
    exact ⟨by rw [e6, zt_pr, e5, zt_arr, if_neg hb], by rw [e6, zl_pr, e5, zl_arr, if_neg hb], fun k i => by rw [e6, zj_pr, e5, zj_arr, if_neg hb], fun k i => by rw [e6, zs_pr, e5, zs_arr, if_neg hb]⟩
  · intro f b hfb
    rw [e6, zi_pr, zr_pr, if_neg (fun q => hfb.elim (fun w => w q.2) (fun w => w q.1)), e5, zi_arr, zr_arr]
    exact ⟨rfl, rfl⟩
  · rw [e6, zi_pr, e5, zi_arr, hi]
  · rw [e6, zr_pr, if_pos ⟨rfl, rfl⟩]
/-- putting x at the place i of the array b1, then the size -/
theorem zl_put {h h2 h3 : ZH} {a e' x : Nat} {l : List Nat} (ha : zt h2 a = 5) (e2 : h2 = zps h 2 e' l.length (some x)) (e3 : h3 = zpi h2 302 a (nI l.length + 1)) (hr : zr h 301 a = some e') (he : zt h e' = 22) (hln : l.length < zl h e') (h64 : zl h e' ≤ 64) (hel : ∀ i, i < l.length → zs h 2 e' i = l[i]?) (hx : ∀ y ∈ l, zt h y ∈ zas 2) (hx9 : zt h x ∈ zas 2) : zL h3 a e' (l ++ [x]) := by
  subst e3; subst e2
  refine ⟨ha, ?_, ?_, ?_, ?_, ?_, fun i hi => ?_, fun y hy => ?_⟩
  · rw [zi_pi, if_pos ⟨rfl, rfl⟩, nI_1, List.length_append]; rfl
  · rw [zr_pi, zr_ps]; exact hr
  · rw [zt_pi, zt_ps]; exact he
  · rw [zl_pi, zl_ps, List.length_append]; exact hln
  · rw [zl_pi, zl_ps]; exact h64
  · rw [zs_pi, zs_ps]
    rw [List.length_append, List.length_singleton] at hi
    by_cases hi2 : i = l.length
    · subst hi2
      rw [if_pos ⟨rfl, rfl, rfl⟩, List.getElem?_append_right (Nat.le_refl _), Nat.sub_self]; rfl
    · rw [if_neg (fun q => hi2 q.2.2), List.getElem?_append_left (by omega)]
      exact hel i (by omega)
  · rw [zt_pi, zt_ps]
    rcases List.mem_append.mp hy with hy | hy
    · exact hx y hy
    · rw [List.mem_singleton.mp hy]; exact hx9
theorem zl_add {G : Nat × Nat × Nat} {Q : Int32 → ZH → Prop} {h : ZH} {bc bs a e x : Nat} {l : List Nat} (hL : zL h a e l) (h40 : l.length ≤ 40) (hx : zt h x ∈ zas 2) (hc : 1 ≤ bc) (hs : 64 ≤ bs)
    (hQ : ∀ e' h', zL h' a e' (l ++ [x]) → zA h h' a e e' → Q 1 h') : fc_J2_add G a Q h bc bs (some x) := by
  obtain ⟨n1, n2, n3⟩ := hL.ne
  obtain ⟨k1, k2, k3, k4, k5, k6, k7, k8⟩ := hL
  have ha5 : zt h a ∈ [5] := by rw [k1]; decide
  refine ⟨ha5, ha5, fun h1 e1 => ?_⟩
  have t1 : ∀ b, zt h1 b = zt h b := fun b => by rw [e1, zt_pi]
  have l1 : ∀ b, zl h1 b = zl h b := fun b => by rw [e1, zl_pi]
  have r1 : ∀ f b, zr h1 f b = zr h f b := fun f b => by rw [e1, zr_pi]
  have i1 : ∀ f b, b ≠ a ∨ f ≠ 300 → zi h1 f b = zi h f b := fun f b hfb => by rw [e1, zi_pi, if_neg (fun q => hfb.elim (fun w => w q.2) (fun w => w q.1))]
  have s1 : ∀ k b i, zs h1 k b i = zs h k b i := fun k b i => by rw [e1, zs_pi]
  have j1 : ∀ k b i, zj h1 k b i = zj h k b i := fun k b i => by rw [e1, zj_pi]
  have ha5' : zt h1 a ∈ [5] := by rw [t1]; exact ha5
  refine ⟨ha5', ha5', by rw [t1]; exact k1, bc, bs, Nat.le_refl _, Nat.le_refl _, ?_⟩
  rw [r1, i1 302 a (Or.inr (by decide)), k3, k2]
  have fin : ∀ (e' : Nat) (h2 : ZH), zt h2 a = 5 → zr h2 301 a = some e' → zt h2 e' = 22 → l.length < zl h2 e' → zl h2 e' ≤ 64 → (∀ i, i < l.length → zs h2 2 e' i = l[i]?) → (∀ y ∈ l, zt h2 y ∈ zas 2) → zt h2 x ∈ zas 2 → zA h h2 a e e' → fc_J2_add_2_11 G a (fun h4 => Q 1 h4) h2 bc bs (some x) (some e') (nI l.length) := by
    intro e' h2 g1 g2 g3 g4 g5 g6 g7 g8 g9
    have hlen : l.length < 2 ^ 31 := by omega
    refine ⟨e', rfl, by rw [g3]; decide, nI_in g4 (by omega), fun b9 hb9 => ?_, fun h3 e3 => ⟨?_, fun h4 e4 => ?_⟩⟩
    · cases hb9; rw [g3]; exact g8
    · rw [e3, zt_ps, g1]; decide
    · rw [nI_clamp hlen] at e3
      have hne' : a ≠ e' := fun q => by rw [q, g3] at g1; omega
      refine hQ e' h4 (zl_put (by rw [e3, zt_ps]; exact g1) e3 e4 g2 g3 g4 g5 g6 g7 g8) ?_
      obtain ⟨q1, q2, q3, q4⟩ := g9
      have u : ∀ b, zt h4 b = zt h2 b ∧ zl h4 b = zl h2 b ∧ (∀ f, f ≠ 302 ∨ b ≠ a → zi h4 f b = zi h2 f b) ∧ (∀ f, zr h4 f b = zr h2 f b) ∧ (∀ k i, zj h4 k b i = zj h2 k b i) ∧ (∀ k i, k ≠ 2 ∨ b ≠ e' → zs h4 k b i = zs h2 k b i) := by
        intro b
        rw [e4, e3]
        exact ⟨by rw [zt_pi, zt_ps], by rw [zl_pi, zl_ps], fun f hf => by rw [zi_pi, zi_ps, if_neg (fun q => hf.elim (fun w => w q.1) (fun w => w q.2))], fun f => by rw [zr_pi, zr_ps], fun k i => by rw [zj_pi, zj_ps], fun k i hk => by rw [zs_pi, zs_ps, if_neg (fun q => hk.elim (fun w => w q.1) (fun w => w q.2.1))]⟩
      refine ⟨fun b hb => ?_, fun b hb hba f => ?_, fun b i hb hbe => ?_, q4⟩
      · obtain ⟨u1, u2, u3, u4, u5, u6⟩ := u b
        obtain ⟨p1, p2, p3, p4, p5⟩ := q1 b hb
        exact ⟨u1.trans p1, u2.trans p2, fun f hf => ⟨(u3 f (Or.inl (by omega))).trans (p3 f hf).1, (u4 f).trans (p3 f hf).2⟩, fun k i => (u5 k i).trans (p4 k i), fun k i hk => (u6 k i (Or.inl hk)).trans (p5 k i hk)⟩
      · obtain ⟨u1, u2, u3, u4, u5, u6⟩ := u b
        exact ⟨(u3 f (Or.inr hba)).trans (q2 b hb hba f).1, (u4 f).trans (q2 b hb hba f).2⟩
      · obtain ⟨u1, u2, u3, u4, u5, u6⟩ := u b
        have hbe' : b ≠ e' := fun q => q4.elim (fun w => hbe (q.trans w)) (fun w => hb (q ▸ w))
        exact (u6 2 i (Or.inr hbe')).trans (q3 b i hb hbe)
  have hK1 : zA h h1 a e e := ⟨fun b hb => ⟨t1 b, l1 b, fun f hf => ⟨i1 f b (Or.inr (by omega)), r1 f b⟩, fun k i => j1 k b i, fun k i _ => s1 k b i⟩, fun b hb hba f => ⟨i1 f b (Or.inl hba), r1 f b⟩, fun b i _ _ => s1 2 b i, Or.inl rfl⟩
  refine ⟨e, rfl, by rw [t1, k4]; decide, fun hne => ?_, fun heq => ?_⟩
  · rw [l1] at hne
    have hlt : l.length < zl h e := Nat.lt_of_le_of_ne k5 (fun q => hne (by rw [q]))
    exact fin e h1 ((t1 a).trans k1) ((r1 301 a).trans k3) ((t1 e).trans k4) (by rw [l1]; exact hlt) (by rw [l1]; exact k6) (fun i hi => (s1 2 e i).trans (k7 i hi)) (fun y hy => by rw [t1]; exact k8 y hy) (by rw [t1]; exact hx) hK1
  · rw [l1] at heq
    have hfull : zl h e = l.length := ((nI_eq (by omega) (by omega)).mp heq).symm
    refine ⟨(t1 a).trans k1, bc, bs, Nat.le_refl _, Nat.le_refl _, ?_⟩
    refine zl_grow ((t1 a).trans k1) ((r1 301 a).trans k3) ((t1 e).trans k4) ((i1 302 a (Or.inr (by decide))).trans k2) ((l1 e).trans hfull) h40 (fun i hi y hy => ?_) hc hs fun e' h2 hz c1 c2 c3 c4 c5 c6 c7 c8 => ?_
    · rw [s1, k7 i hi] at hy
      rw [t1]; exact k8 y (List.mem_of_getElem? hy)
    · have hae : a ≠ e' := fun q => by rw [t1, ← q] at hz; exact n1 hz
      have hz0 : zt h e' = 0 := (t1 e').symm.trans hz
      have old : ∀ b, zt h b ≠ 0 → b ≠ e' := fun b hb q => hb (q ▸ hz0)
      have hxo : zt h x ≠ 0 := fun q => by rw [q] at hx; simp [zas] at hx
      have := fin e' h2 (((c5 a hae).1.trans (t1 a)).trans k1) c8 c1 c2 c3 (fun i hi => (c4 i hi).trans ((s1 2 e i).trans (k7 i hi))) (fun y hy => by
          have h8 := k8 y hy
          have hy0 : zt h y ≠ 0 := fun q => by rw [q] at h8; simp [zas] at h8
          rw [(c5 y (old y hy0)).1, t1]; exact h8) (by rw [(c5 x (old x hxo)).1, t1]; exact hx)
        ⟨fun b hb => ⟨(c5 b (old b hb)).1.trans (t1 b), (c5 b (old b hb)).2.1.trans (l1 b), fun f hf => ⟨(c6 f b (Or.inr (by omega))).1.trans (i1 f b (Or.inr (by omega))), (c6 f b (Or.inr (by omega))).2.trans (r1 f b)⟩, fun k i => ((c5 b (old b hb)).2.2.1 k i).trans (j1 k b i), fun k i _ => ((c5 b (old b hb)).2.2.2 k i).trans (s1 k b i)⟩,
          fun b hb hba f => ⟨(c6 f b (Or.inl hba)).1.trans (i1 f b (Or.inl hba)), (c6 f b (Or.inl hba)).2.trans (r1 f b)⟩,
          fun b i hb hbe => ((c5 b (old b hb)).2.2.2 2 i).trans (s1 2 b i), Or.inr hz0⟩
      exact this
theorem zl_size {G : Nat × Nat × Nat} {Q : Int32 → Prop} {h : ZH} {a e : Nat} {l : List Nat} (hL : zL h a e l) (hQ : Q (nI l.length)) : fc_J2_size G a Q h := by
  obtain ⟨k1, k2, -⟩ := hL
  refine ⟨by rw [k1]; decide, ?_⟩
  rw [k2]; exact hQ
theorem zl_get {G : Nat × Nat × Nat} {Q : Option Nat → Prop} {h : ZH} {a e i : Nat} {l : List Nat} (hL : zL h a e l) (hi : i < l.length) (hQ : Q l[i]?) : fc_J2_get G a Q h (nI i) := by
  obtain ⟨k1, k2, k3, k4, k5, k6, k7, k8⟩ := hL
  refine ⟨by rw [k1]; decide, ?_⟩
  rw [k2]
  refine ⟨fun w => absurd w (nI_pos (by omega)), fun _ => ⟨fun _ => ?_, fun w => absurd (nI_lt hi (by omega)) w⟩⟩
  refine ⟨k1, by rw [k1]; decide, e, k3, by rw [k4]; decide, nI_in (by omega) (by omega), ?_⟩
  rw [nI_clamp (by omega), k7 i hi]; exact hQ
/-- frame of what touches only the list at a and the elements of its array -/
theorem zA.one {h h' : ZH} {a e : Nat} (ht : ∀ b, zt h' b = zt h b) (hl : ∀ b, zl h' b = zl h b) (hi : ∀ f b, (b ≠ a ∨ (f ≠ 300 ∧ f ≠ 302)) → zi h' f b = zi h f b) (hr : ∀ f b, zr h' f b = zr h f b) (hj : ∀ k b i, zj h' k b i = zj h k b i) (hs : ∀ k b i, (k ≠ 2 ∨ b ≠ e) → zs h' k b i = zs h k b i) : zA h h' a e e :=
  ⟨fun b _ => ⟨ht b, hl b, fun f hf => ⟨hi f b (Or.inr ⟨by omega, by omega⟩), hr f b⟩, fun k i => hj k b i, fun k i hk => hs k b i (Or.inl hk)⟩, fun b _ hba f => ⟨hi f b (Or.inl hba), hr f b⟩, fun b i _ hbe => hs 2 b i (Or.inr hbe), Or.inl rfl⟩
theorem zl_clear {G : Nat × Nat × Nat} {Q : ZH → Prop} {h : ZH} {a e : Nat} {l : List Nat} (hL : zL h a e l) (hQ : ∀ h', zL h' a e [] → zA h h' a e e → Q h') : fc_J2_clear G a Q h := by
  obtain ⟨n1, n2, n3⟩ := hL.ne
  obtain ⟨k1, k2, k3, k4, k5, k6, k7, k8⟩ := hL
  have ha5 : zt h a ∈ [5] := by rw [k1]; decide
  refine ⟨ha5, ha5, fun h1 e1 => ⟨by rw [e1, zt_pi]; exact ha5, fun r2 e2 => ⟨by rw [e1, zt_pi]; exact ha5, fun x3 e3 => ⟨by rw [e1, zt_pi]; exact ha5, fun h4 e4 => ?_⟩⟩⟩⟩
  have e2 : r2 = some e := by rw [e2, e1, zr_pi, k3]
  have e3 : x3 = nI l.length := by rw [e3, e1, zi_pi, if_neg (by simp), k2]
  subst e2; subst e3
  have loop : ∀ (n i : Nat) (hh : ZH), i + n = l.length + 1 → i ≤ l.length → (∀ b, zt hh b = zt h4 b) → (∀ b, zl hh b = zl h4 b) → (∀ f b, zi hh f b = zi h4 f b) → (∀ f b, zr hh f b = zr h4 f b) → (∀ k b i, zj hh k b i = zj h4 k b i) → (∀ k b i, (k ≠ 2 ∨ b ≠ e) → zs hh k b i = zs h4 k b i) → fc_J2_clear_27 G a Q n hh (some e) (nI l.length) (nI i) := by
    intro n
    induction n with
    | zero => intro i hh h1 h2; omega
    | succ n ih =>
      intro i hh hin hil t l9 i9 r9 j9 s9
      refine ⟨fun _ => ?_, fun w => ?_⟩
      · have g1 : ∀ b, zt hh b = zt h b := fun b => by rw [t, e4, zt_pi, e1, zt_pi]
        have g2 : ∀ b, zl hh b = zl h b := fun b => by rw [l9, e4, zl_pi, e1, zl_pi]
        have g4 : ∀ f b, zr hh f b = zr h f b := fun f b => by rw [r9, e4, zr_pi, e1, zr_pi]
        refine hQ hh ⟨by rw [g1]; exact k1, ?_, by rw [g4]; exact k3, by rw [g1]; exact k4, Nat.zero_le _, by rw [g2]; exact k6, fun i hi => absurd hi (Nat.not_lt_zero i), fun x hx => by cases hx⟩ (zA.one g1 g2 (fun f b hfb => ?_) g4 (fun k b i => by rw [j9, e4, zj_pi, e1, zj_pi]) (fun k b i hk => by rw [s9 k b i hk, e4, zs_pi, e1, zs_pi]))
        · rw [i9, e4, zi_pi, if_pos ⟨rfl, rfl⟩]; rfl
        · rw [i9, e4, zi_pi, if_neg (fun q => hfb.elim (fun z => z q.2) (fun z => z.2 q.1)), e1, zi_pi, if_neg (fun q => hfb.elim (fun z => z q.2) (fun z => z.1 q.1))]
      · have hlt : i < l.length := Classical.byContradiction fun q => w (nI_le (by omega) (by omega))
        have g1 : zt hh e = 22 := by rw [t, e4, zt_pi, e1, zt_pi]; exact k4
        have g2 : zl hh e = zl h e := by rw [l9, e4, zl_pi, e1, zl_pi]
        refine ⟨e, rfl, by rw [g1]; decide, by rw [g2]; exact nI_in (by omega) (by omega), (fun b9 hb9 => nomatch hb9), fun h2 e2 x3 ex => ?_⟩
        rw [nI_1] at ex
        subst ex
        exact ih (i + 1) h2 (by omega) hlt (fun b => by rw [e2, zt_ps, t]) (fun b => by rw [e2, zl_ps, l9]) (fun f b => by rw [e2, zi_ps, i9]) (fun f b => by rw [e2, zr_ps, r9]) (fun k b i => by rw [e2, zj_ps, j9]) (fun k b i hk => by rw [e2, zs_ps, if_neg (fun q => hk.elim (fun z => z q.1) (fun z => z q.2.1)), s9 k b i hk])
  exact ⟨l.length + 1, loop _ 0 h4 (by omega) (Nat.zero_le _) (fun _ => rfl) (fun _ => rfl) (fun _ _ => rfl) (fun _ _ => rfl) (fun _ _ _ => rfl) (fun _ _ _ _ => rfl)⟩
/-- a new list, empty, on an object just made -/
theorem zl_new0 {G : Nat × Nat × Nat} {Q : ZH → Prop} {h : ZH} {a : Nat} (ha : zt h a = 5) (hi : zi h 302 a = 0) (hg : zt h G.2.1 = 22 ∧ zl h G.2.1 = 0) (hQ : ∀ h', zL h' a G.2.1 [] → (∀ b, zt h' b = zt h b ∧ zl h' b = zl h b ∧ (∀ k i, zj h' k b i = zj h k b i) ∧ (∀ k i, zs h' k b i = zs h k b i)) → (∀ f b, b ≠ a → zi h' f b = zi h f b ∧ zr h' f b = zr h f b) → Q h') : fc_J2_init_2 G a Q h := by
  have ha5 : zt h a ∈ [5] := by rw [ha]; decide
  refine ⟨ha5, fun h1 e1 => ⟨by rw [e1, zt_pi]; exact ha5, fun h2 e2 => ?_⟩⟩
  subst e2; subst e1
  refine hQ _ ⟨ha, ?_, ?_, hg.1, Nat.zero_le _, ?_, fun i hi => absurd hi (Nat.not_lt_zero i), fun x hx => by cases hx⟩ (fun b => ⟨rfl, rfl, fun _ _ => rfl, fun _ _ => rfl⟩) fun f b hb => ?_
  · rw [zi_pr, zi_pi, if_neg (by simp), hi]; rfl
  · rw [zr_pr, if_pos ⟨rfl, rfl⟩]
  · rw [zl_pr, zl_pi, hg.2]; decide
  · rw [zi_pr, zi_pi, if_neg (fun q => hb q.2), zr_pr, if_neg (fun q => hb q.2), zr_pi]; exact ⟨rfl, rfl⟩
/-- a new list with room for n -/
theorem zl_newN {G : Nat × Nat × Nat} {Q : ZH → Prop} {h : ZH} {bc bs a n : Nat} (hn : n ≤ 60) (ha : zt h a = 5) (hi : zi h 302 a = 0) (hg : zt h G.1 = 22 ∧ zl h G.1 = 0) (hc : 1 ≤ bc) (hs : n ≤ bs) (hQ : ∀ h' e, zL h' a e [] → (e = G.1 ∨ zt h e = 0) → (∀ b, b ≠ e ∨ e = G.1 → zt h' b = zt h b ∧ zl h' b = zl h b ∧ (∀ k i, zj h' k b i = zj h k b i) ∧ (∀ k i, zs h' k b i = zs h k b i)) → (∀ f b, b ≠ a → zi h' f b = zi h f b ∧ zr h' f b = zr h f b) → Q h') : fc_J2_init G a Q h bc bs (nI n) := by
  have ha5 : zt h a ∈ [5] := by rw [ha]; decide
  refine ⟨ha5, fun h1 e1 => ⟨fun hle => ⟨fun hne => ?_, fun he0 => ⟨by rw [e1, zt_pi]; exact ha5, fun h2 e2 => ?_⟩⟩, fun hgt => ?_⟩⟩
  · have h0 : ¬ 0 < n := fun q => nI_nle q (by omega) hle
    exact absurd (by rw [show n = 0 by omega]; rfl) hne
  · subst e2; subst e1
    refine hQ _ G.1 ⟨ha, ?_, ?_, hg.1, Nat.zero_le _, ?_, fun i hi => absurd hi (Nat.not_lt_zero i), fun x hx => by cases hx⟩ (Or.inl rfl) (fun b _ => ⟨rfl, rfl, fun _ _ => rfl, fun _ _ => rfl⟩) fun f b hb => ?_
    · rw [zi_pr, zi_pi, if_neg (by simp), hi]; rfl
    · rw [zr_pr, if_pos ⟨rfl, rfl⟩]
    · rw [zl_pr, zl_pi, hg.2]; decide
    · rw [zi_pr, zi_pi, if_neg (fun q => hb q.2), zr_pr, if_neg (fun q => hb q.2), zr_pi]; exact ⟨rfl, rfl⟩
  · refine ⟨nI_pos (by omega), by rw [nI_clamp (by omega)]; omega, hc, by rw [nI_clamp (by omega)]; exact hs, fun e h4 hz e4 => ?_⟩
    rw [nI_clamp (by omega)] at e4
    have hz0 : zt h e = 0 := by rw [e1, zt_pi] at hz; exact hz
    have hae : a ≠ e := fun q => by rw [← q] at hz0; omega
    subst e1
    refine ⟨by rw [e4, zt_arr, if_neg hae, zt_pi]; exact ha5, fun h5 e5 => ?_⟩
    subst e5; subst e4
    refine hQ _ e ⟨?_, ?_, ?_, ?_, Nat.zero_le _, ?_, fun i hi => absurd hi (Nat.not_lt_zero i), fun x hx => by cases hx⟩ (Or.inr hz0) (fun b hb => ?_) fun f b hb => ?_
    · rw [zt_pr, zt_arr, if_neg hae, zt_pi]; exact ha
    · rw [zi_pr, zi_arr, zi_pi, if_neg (by simp), hi]; rfl
    · rw [zr_pr, if_pos ⟨rfl, rfl⟩]
    · rw [zt_pr, zt_arr, if_pos rfl]
    · rw [zl_pr, zl_arr, if_pos rfl]; omega
    · have hb : b ≠ e := hb.elim id (fun q => by rw [q] at hz0; omega)
      rw [zt_pr, zt_arr, if_neg hb, zl_pr, zl_arr, if_neg hb]
      exact ⟨rfl, rfl, fun k i => by rw [zj_pr, zj_arr, if_neg hb, zj_pi], fun k i => by rw [zs_pr, zs_arr, if_neg hb, zs_pi]⟩
    · rw [zi_pr, zi_arr, zi_pi, if_neg (fun q => hb q.2), zr_pr, if_neg (fun q => hb q.2), zr_arr, zr_pi]; exact ⟨rfl, rfl⟩
theorem zl_equals {G : Nat × Nat × Nat} {Q : Int32 → Prop} {h : ZH} {x : Nat} {y : Option Nat} (hx : zt h x = 14) (hQ : Q (if some x = y then 1 else 0)) : fv_equals_4 G x Q h y := by
  have h14 : zt h x ∈ [14] := by rw [hx]; decide
  refine ⟨h14, fun _ => ⟨fun w => ?_, fun w => ?_⟩⟩
  · rw [if_neg w] at hQ; exact hQ
  · rw [if_pos w] at hQ; exact hQ
theorem zl_idx {G : Nat × Nat × Nat} {Q : Int32 → Prop} {h : ZH} {a e x : Nat} {l : List Nat} (hL : zL h a e l) (hx : zt h x = 14) (h60 : l.length ≤ 60) (hQ1 : ∀ i, l[i]? = some x → (∀ j, j < i → l[j]? ≠ some x) → Q (nI i)) (hQ0 : x ∉ l → Q (-1)) : fc_J2_indexOf G a Q h (some x) := by
  obtain ⟨k1, k2, k3, k4, k5, k6, k7, k8⟩ := hL
  have ha5 : zt h a ∈ [5] := by rw [k1]; decide
  refine ⟨ha5, k1, ha5, fun r1 er => ⟨(fun w => nomatch w), fun b2 hb2 => ?_⟩⟩
  rw [k3] at er; subst er
  rw [k2]
  have loop : ∀ (n i : Nat), i + n = l.length + 1 → i ≤ l.length → (∀ j, j < i → l[j]? ≠ some x) → fc_J2_indexOfRange_42 G a (fun z1 => Q z1) n h (some x) (nI l.length) (some e) (nI i) := by
    intro n
    induction n with
    | zero => intro i hin hil; omega
    | succ n ih =>
      intro i hin hil hno
      refine ⟨fun w => hQ0 fun hm => ?_, fun w => ?_⟩
      · obtain ⟨j, hj⟩ := List.mem_iff_getElem?.mp hm
        have hjl := (List.getElem?_eq_some_iff.mp hj).1
        have hil : ¬ i < l.length := fun q => nI_ge q (by omega) w
        exact hno j (by omega) hj
      · have hlt : i < l.length := Classical.byContradiction fun q => w (nI_le (by omega) (by omega))
        refine ⟨e, rfl, by rw [k4]; decide, nI_in (by omega) (by omega), x, rfl, ?_⟩
        rw [nI_clamp (by omega), k7 i hlt]
        refine zl_equals hx ?_
        by_cases hq : some x = l[i]?
        · rw [if_pos hq]
          exact ⟨fun w => absurd w (by decide), fun _ => hQ1 i hq.symm hno⟩
        · rw [if_neg hq]
          refine ⟨fun _ x4 e4 => ?_, fun w => absurd rfl w⟩
          rw [nI_1] at e4; subst e4
          exact ih (i + 1) (by omega) hlt (fun j hj => by
            by_cases hji : j = i
            · rw [hji]; exact fun q => hq q.symm
            · exact hno j (by omega))
  exact ⟨l.length + 1, loop _ 0 (by omega) (Nat.zero_le _) (fun j hj => absurd hj (Nat.not_lt_zero j))⟩
theorem zl_contains {G : Nat × Nat × Nat} {Q : Int32 → Prop} {h : ZH} {a e x : Nat} {l : List Nat} (hL : zL h a e l) (hx : zt h x = 14) (h60 : l.length ≤ 60) (hQ : Q (if x ∈ l then 1 else 0)) : fc_J2_contains G a Q h (some x) := by
  refine ⟨hL.1, zl_idx hL hx h60 (fun i hi _ => ⟨fun w => ?_, fun _ => ?_⟩) (fun hno => ⟨fun _ => ?_, fun w => absurd (by decide) w⟩)⟩
  · have := (List.getElem?_eq_some_iff.mp hi).1
    exact absurd w (nI_pos (by omega))
  · rw [if_pos (List.mem_of_getElem? hi)] at hQ; exact hQ
  · rw [if_neg hno] at hQ; exact hQ
theorem zl_ins {l : List Nat} {i x j : Nat} (hi : i ≤ l.length) : (l.take i ++ x :: l.drop i)[j]? = if j < i then l[j]? else if j = i then some x else l[j - 1]? := by
  have ht : (l.take i).length = i := by rw [List.length_take]; omega
  by_cases h1 : j < i
  · rw [if_pos h1, List.getElem?_append_left (by omega), List.getElem?_take]; simp [h1]
  · rw [if_neg h1, List.getElem?_append_right (by omega), ht]
    by_cases h2 : j = i
    · rw [if_pos h2, h2, Nat.sub_self]; rfl
    · rw [if_neg h2]
      obtain ⟨d, hd⟩ : ∃ d, j - i = d + 1 := ⟨j - i - 1, by omega⟩
      rw [hd, List.getElem?_cons_succ, List.getElem?_drop]
      congr 1; omega
theorem zl_addAt {G : Nat × Nat × Nat} {Q : ZH → Prop} {h : ZH} {bc bs a e x i : Nat} {l : List Nat} (hL : zL h a e l) (hi : i ≤ l.length) (h40 : l.length ≤ 40) (hx : zt h x ∈ zas 2) (hc : 1 ≤ bc) (hs : 64 ≤ bs)
    (hQ : ∀ e' h', zL h' a e' (l.take i ++ x :: l.drop i) → zA h h' a e e' → Q h') : fc_J2_add_3 G a Q h bc bs (nI i) (some x) := by
  obtain ⟨n1, n2, n3⟩ := hL.ne
  obtain ⟨k1, k2, k3, k4, k5, k6, k7, k8⟩ := hL
  have ha5 : zt h a ∈ [5] := by rw [k1]; decide
  refine ⟨k1, ha5, ?_⟩
  rw [k2]
  refine ⟨fun w => absurd w (nI_nlt hi (by omega)), fun _ => ⟨fun _ => ?_, fun w => absurd (nI_pos' (by omega)) w⟩⟩
  refine ⟨ha5, ha5, fun h1 e1 => ?_⟩
  have t1 : ∀ b, zt h1 b = zt h b := fun b => by rw [e1, zt_pi]
  have l1 : ∀ b, zl h1 b = zl h b := fun b => by rw [e1, zl_pi]
  have r1 : ∀ f b, zr h1 f b = zr h f b := fun f b => by rw [e1, zr_pi]
  have i1 : ∀ f b, b ≠ a ∨ f ≠ 300 → zi h1 f b = zi h f b := fun f b hfb => by rw [e1, zi_pi, if_neg (fun q => hfb.elim (fun w => w q.2) (fun w => w q.1))]
  have s1 : ∀ k b i, zs h1 k b i = zs h k b i := fun k b i => by rw [e1, zs_pi]
  have j1 : ∀ k b i, zj h1 k b i = zj h k b i := fun k b i => by rw [e1, zj_pi]
  have ha5' : zt h1 a ∈ [5] := by rw [t1]; exact ha5
  refine ⟨ha5', fun x2 ex2 => ⟨ha5', fun r3 er3 => ?_⟩⟩
  have hsz : zi h1 302 a = nI l.length := (i1 302 a (Or.inr (by decide))).trans k2
  have hrr : zr h1 301 a = some e := (r1 301 a).trans k3
  rw [hsz] at ex2
  rw [hrr] at er3
  subst ex2; subst er3
  rw [hsz]
  have fin : ∀ (b1 b2 e' : Nat) (h2 : ZH), zt h2 a = 5 → zr h2 301 a = some e' → zt h2 e' = 22 → l.length < zl h2 e' → zl h2 e' ≤ 64 → (∀ i, i < l.length → zs h2 2 e' i = l[i]?) → (∀ y ∈ l, zt h2 y ∈ zas 2) → zt h2 x ∈ zas 2 → zA h h2 a e e' → fc_J2_add_3_38 G a Q h2 b1 b2 (nI i) (some x) (nI l.length) (some e') := by
    intro b1 b2 e' h2 g1 g2 g3 g4 g5 g6 g7 g8 g9
    have hne' : a ≠ e' := fun q => by rw [q, g3] at g1; omega
    have c1 : (nI i).toNatClampNeg = i := nI_clamp (by omega)
    have c2 : (nI i + 1).toNatClampNeg = i + 1 := by rw [nI_1]; exact nI_clamp (by omega)
    have c3 : (nI l.length - nI i).toNatClampNeg = l.length - i := by rw [zs_sub hi]; exact nI_clamp (by omega)
    refine ⟨e', rfl, g3, g3, by omega, ⟨nI_pos (by omega), by rw [nI_1]; exact nI_pos (by omega), by rw [zs_sub hi]; exact nI_pos (by omega), by rw [c1, c3]; omega, by rw [c2, c3]; omega⟩, fun k hk y hy => ?_, fun h3 e3 => ⟨?_, ?_, fun b9 hb9 => ?_, fun h4 e4 => ⟨?_, fun h5 e5 => ?_⟩⟩⟩
    · rw [c1, c3] at *
      rw [g6 (i + k) (by omega)] at hy
      exact g7 y (List.mem_of_getElem? hy)
    · rw [e3, zt_cps, g3]; decide
    · rw [e3, zl_cps]; exact nI_in (by omega) (by omega)
    · cases hb9
      rw [e3, zt_cps, zt_cps, g3]; exact g8
    · rw [e4, zt_ps, e3, zt_cps, g1]; decide
    · rw [c1] at e4
      rw [c1, c2, c3] at e3
      have u : ∀ b, zt h5 b = zt h2 b ∧ zl h5 b = zl h2 b ∧ (∀ f, f ≠ 302 ∨ b ≠ a → zi h5 f b = zi h2 f b) ∧ (∀ f, zr h5 f b = zr h2 f b) ∧ (∀ k i, zj h5 k b i = zj h2 k b i) ∧ (∀ k i, k ≠ 2 ∨ b ≠ e' → zs h5 k b i = zs h2 k b i) := by
        intro b
        rw [e5, e4, e3]
        exact ⟨by rw [zt_pi, zt_ps, zt_cps], by rw [zl_pi, zl_ps, zl_cps], fun f hf => by rw [zi_pi, zi_ps, zi_cps, if_neg (fun q => hf.elim (fun w => w q.1) (fun w => w q.2))], fun f => by rw [zr_pi, zr_ps, zr_cps], fun k i => by rw [zj_pi, zj_ps, zj_cps], fun k i hk => by rw [zs_pi, zs_ps, if_neg (fun q => hk.elim (fun w => w q.1) (fun w => w q.2.1)), zs_cps, if_neg (fun q => hk.elim (fun w => w q.1) (fun w => w q.2.1))]⟩
      have hlen : (l.take i ++ x :: l.drop i).length = l.length + 1 := by simp; omega
      have ho2 : ∀ y ∈ l, zt h5 y ∈ zas 2 := fun y hy => by rw [(u y).1]; exact g7 y hy
      refine hQ e' h5 ⟨(u a).1.trans g1, ?_, ((u a).2.2.2.1 301).trans g2, (u e').1.trans g3, by rw [(u e').2.1, hlen]; exact g4, by rw [(u e').2.1]; exact g5, fun j hj => ?_, fun y hy => ?_⟩ ?_
      · rw [e5, zi_pi, if_pos ⟨rfl, rfl⟩, nI_1, hlen]
      · rw [zl_ins hi, e5, zs_pi, e4, zs_ps, e3, zs_cps]
        rw [hlen] at hj
        by_cases q1 : j < i
        · rw [if_pos q1, if_neg (fun q => by omega), if_neg (fun q => by omega)]
          exact g6 j (by omega)
        · by_cases q2 : j = i
          · rw [if_neg q1, if_pos q2, if_pos ⟨rfl, rfl, q2⟩]
          · rw [if_neg q1, if_neg q2, if_neg (fun q => q2 q.2.2), if_pos ⟨rfl, rfl, by omega, by omega⟩, show i + (j - (i + 1)) = j - 1 by omega]
            exact g6 (j - 1) (by omega)
      · rcases List.mem_append.mp hy with hy | hy
        · exact ho2 y (List.mem_of_mem_take hy)
        · rcases List.mem_cons.mp hy with hy | hy
          · rw [hy, (u x).1]; exact g8
          · exact ho2 y (List.mem_of_mem_drop hy)
      · obtain ⟨q1, q2, q3, q4⟩ := g9
        refine ⟨fun b hb => ?_, fun b hb hba f => ?_, fun b i hb hbe => ?_, q4⟩
        · obtain ⟨u1, u2, u3, u4, u5, u6⟩ := u b
          obtain ⟨p1, p2, p3, p4, p5⟩ := q1 b hb
          exact ⟨u1.trans p1, u2.trans p2, fun f hf => ⟨(u3 f (Or.inl (by omega))).trans (p3 f hf).1, (u4 f).trans (p3 f hf).2⟩, fun k i => (u5 k i).trans (p4 k i), fun k i hk => (u6 k i (Or.inl hk)).trans (p5 k i hk)⟩
        · obtain ⟨u1, u2, u3, u4, u5, u6⟩ := u b
          exact ⟨(u3 f (Or.inr hba)).trans (q2 b hb hba f).1, (u4 f).trans (q2 b hb hba f).2⟩
        · obtain ⟨u1, u2, u3, u4, u5, u6⟩ := u b
          have hbe' : b ≠ e' := fun q => q4.elim (fun w => hbe (q.trans w)) (fun w => hb (q ▸ w))
          exact (u6 2 i (Or.inr hbe')).trans (q3 b i hb hbe)
  have hK1 : zA h h1 a e e := ⟨fun b hb => ⟨t1 b, l1 b, fun f hf => ⟨i1 f b (Or.inr (by omega)), r1 f b⟩, fun k i => j1 k b i, fun k i _ => s1 k b i⟩, fun b hb hba f => ⟨i1 f b (Or.inl hba), r1 f b⟩, fun b i _ _ => s1 2 b i, Or.inl rfl⟩
  refine ⟨e, hrr, by rw [t1, k4]; decide, fun hne => ?_, fun heq => ?_⟩
  · rw [l1] at hne
    have hlt : l.length < zl h e := Nat.lt_of_le_of_ne k5 (fun q => hne (by rw [q]))
    exact fin bc bs e h1 ((t1 a).trans k1) hrr ((t1 e).trans k4) (by rw [l1]; exact hlt) (by rw [l1]; exact k6) (fun i hi => (s1 2 e i).trans (k7 i hi)) (fun y hy => by rw [t1]; exact k8 y hy) (by rw [t1]; exact hx) hK1
  · rw [l1] at heq
    have hfull : zl h e = l.length := ((nI_eq (by omega) (by omega)).mp heq).symm
    refine ⟨(t1 a).trans k1, bc, bs, Nat.le_refl _, Nat.le_refl _, ?_⟩
    refine zl_grow ((t1 a).trans k1) hrr ((t1 e).trans k4) hsz ((l1 e).trans hfull) h40 (fun i hi y hy => ?_) hc hs fun e' h2 hz c1 c2 c3 c4 c5 c6 c7 c8 => ?_
    · rw [s1, k7 i hi] at hy
      rw [t1]; exact k8 y (List.mem_of_getElem? hy)
    · have hae : a ≠ e' := fun q => by rw [t1, ← q] at hz; exact n1 hz
      have hz0 : zt h e' = 0 := (t1 e').symm.trans hz
      have old : ∀ b, zt h b ≠ 0 → b ≠ e' := fun b hb q => hb (q ▸ hz0)
      have hxo : zt h x ≠ 0 := fun q => by rw [q] at hx; simp [zas] at hx
      exact fin _ _ e' h2 (((c5 a hae).1.trans (t1 a)).trans k1) c8 c1 c2 c3 (fun i hi => (c4 i hi).trans ((s1 2 e i).trans (k7 i hi))) (fun y hy => by
          have h8 := k8 y hy
          have hy0 : zt h y ≠ 0 := fun q => by rw [q] at h8; simp [zas] at h8
          rw [(c5 y (old y hy0)).1, t1]; exact h8) (by rw [(c5 x (old x hxo)).1, t1]; exact hx)
        ⟨fun b hb => ⟨(c5 b (old b hb)).1.trans (t1 b), (c5 b (old b hb)).2.1.trans (l1 b), fun f hf => ⟨(c6 f b (Or.inr (by omega))).1.trans (i1 f b (Or.inr (by omega))), (c6 f b (Or.inr (by omega))).2.trans (r1 f b)⟩, fun k i => ((c5 b (old b hb)).2.2.1 k i).trans (j1 k b i), fun k i _ => ((c5 b (old b hb)).2.2.2 k i).trans (s1 k b i)⟩,
          fun b hb hba f => ⟨(c6 f b (Or.inl hba)).1.trans (i1 f b (Or.inl hba)), (c6 f b (Or.inl hba)).2.trans (r1 f b)⟩,
          fun b i hb hbe => ((c5 b (old b hb)).2.2.2 2 i).trans (s1 2 b i), Or.inr hz0⟩
theorem zl_del {l : List Nat} {i j : Nat} : (l.take i ++ l.drop (i + 1))[j]? = if j < i then l[j]? else l[j + 1]? := by
  by_cases hl : i ≤ l.length
  · have ht : (l.take i).length = i := by rw [List.length_take]; omega
    by_cases h1 : j < i
    · rw [if_pos h1, List.getElem?_append_left (by omega), List.getElem?_take]; simp [h1]
    · rw [if_neg h1, List.getElem?_append_right (by omega), ht, List.getElem?_drop]
      congr 1; omega
  · have e1 : l.take i = l := List.take_of_length_le (by omega)
    have e2 : l.drop (i + 1) = [] := List.drop_of_length_le (by omega)
    rw [e1, e2, List.append_nil]
    by_cases h1 : j < i
    · rw [if_pos h1]
    · rw [if_neg h1, List.getElem?_eq_none (by omega), List.getElem?_eq_none (by omega)]
theorem zl_fastRemove {G : Nat × Nat × Nat} {Q : ZH → Prop} {h : ZH} {a e i : Nat} {l : List Nat} (hL : zL h a e l) (hi : i < l.length)
    (hQ : ∀ h', zL h' a e (l.take i ++ l.drop (i + 1)) → zA h h' a e e → Q h') : fc_J2_fastRemove G a Q h (some e) (nI i) := by
  obtain ⟨n1, n2, n3⟩ := hL.ne
  obtain ⟨k1, k2, k3, k4, k5, k6, k7, k8⟩ := hL
  obtain ⟨m, hm⟩ : ∃ m, l.length = m + 1 := ⟨l.length - 1, by omega⟩
  have ha5 : zt h a ∈ [5] := by rw [k1]; decide
  refine ⟨ha5, ha5, fun h1 e1 => ?_⟩
  have t1 : ∀ b, zt h1 b = zt h b := fun b => by rw [e1, zt_pi]
  have l1 : ∀ b, zl h1 b = zl h b := fun b => by rw [e1, zl_pi]
  have r1 : ∀ f b, zr h1 f b = zr h f b := fun f b => by rw [e1, zr_pi]
  have i1 : ∀ f b, b ≠ a ∨ f ≠ 300 → zi h1 f b = zi h f b := fun f b hfb => by rw [e1, zi_pi, if_neg (fun q => hfb.elim (fun w => w q.2) (fun w => w q.1))]
  have s1 : ∀ k b i, zs h1 k b i = zs h k b i := fun k b i => by rw [e1, zs_pi]
  have j1 : ∀ k b i, zj h1 k b i = zj h k b i := fun k b i => by rw [e1, zj_pi]
  have hsz : zi h1 302 a - 1 = nI m := by rw [i1 302 a (Or.inr (by decide)), k2, hm]; exact nI_pred m
  refine ⟨by rw [t1]; exact ha5, fun x2 ex2 => ?_⟩
  rw [hsz] at ex2 ⊢
  subst ex2
  have hlen : (l.take i ++ l.drop (i + 1)).length = m := by simp; omega
  have fin : ∀ h2 : ZH, (∀ b, zt h2 b = zt h b) → (∀ b, zl h2 b = zl h b) → (∀ f b, zi h2 f b = zi h1 f b) → (∀ f b, zr h2 f b = zr h f b) → (∀ k b i, zj h2 k b i = zj h k b i) → (∀ k b i, k ≠ 2 ∨ b ≠ e → zs h2 k b i = zs h k b i) → (∀ j, j < m → zs h2 2 e j = if j < i then l[j]? else l[j + 1]?) → fc_J2_fastRemove_34 G a Q h2 (some e) (nI m) := by
    intro h2 g1 g2 g3 g4 g5 g6 g7
    refine ⟨by rw [g1]; exact ha5, fun h3 e3 => ⟨e, rfl, by rw [e3, zt_pi, g1, k4]; decide, by rw [e3, zl_pi, g2]; exact nI_in (by omega) (by omega), (fun b9 hb9 => nomatch hb9), fun h4 e4 => ?_⟩⟩
    rw [nI_clamp (by omega)] at e4
    have v1 : ∀ b, zt h4 b = zt h b := fun b => by rw [e4, zt_ps, e3, zt_pi, g1]
    have v2 : ∀ b, zl h4 b = zl h b := fun b => by rw [e4, zl_ps, e3, zl_pi, g2]
    have v4 : ∀ f b, zr h4 f b = zr h f b := fun f b => by rw [e4, zr_ps, e3, zr_pi, g4]
    refine hQ h4 ⟨(v1 a).trans k1, ?_, (v4 301 a).trans k3, (v1 e).trans k4, by rw [v2, hlen]; omega, by rw [v2]; exact k6, fun j hj => ?_, fun y hy => ?_⟩ (zA.one v1 v2 (fun f b hfb => ?_) v4 (fun k b i => by rw [e4, zj_ps, e3, zj_pi, g5]) (fun k b i hk => by rw [e4, zs_ps, if_neg (fun q => hk.elim (fun z => z q.1) (fun z => z q.2.1)), e3, zs_pi, g6 k b i hk]))
    · rw [e4, zi_ps, e3, zi_pi, if_pos ⟨rfl, rfl⟩, hlen]
    · rw [hlen] at hj
      rw [zl_del, e4, zs_ps, if_neg (fun q => by omega), e3, zs_pi, g7 j hj]
    · rw [v1]
      rcases List.mem_append.mp hy with hy | hy
      · exact k8 y (List.mem_of_mem_take hy)
      · exact k8 y (List.mem_of_mem_drop hy)
    · rw [e4, zi_ps, e3, zi_pi, if_neg (fun q => hfb.elim (fun z => z q.2) (fun z => z.2 q.1)), g3, i1 f b (hfb.elim Or.inl (fun z => Or.inr z.1))]
  refine ⟨fun w => ?_, fun w => ?_⟩
  · have him : m ≤ i := Classical.byContradiction fun q => nI_ge (Nat.not_le.mp q) (by omega) w
    refine fin h1 t1 l1 (fun _ _ => rfl) r1 j1 (fun k b i _ => s1 k b i) (fun j hj => ?_)
    rw [if_pos (by omega), s1]; exact k7 j (by omega)
  · have him : i < m := Classical.byContradiction fun q => w (nI_le (by omega) (by omega))
    have c1 : (nI i).toNatClampNeg = i := nI_clamp (by omega)
    have c2 : (nI i + 1).toNatClampNeg = i + 1 := by rw [nI_1]; exact nI_clamp (by omega)
    have c3 : (nI m - nI i).toNatClampNeg = m - i := by rw [zs_sub (by omega)]; exact nI_clamp (by omega)
    refine ⟨e, rfl, (t1 e).trans k4, (t1 e).trans k4, by rw [l1]; omega, ⟨by rw [nI_1]; exact nI_pos (by omega), nI_pos (by omega), by rw [zs_sub (by omega)]; exact nI_pos (by omega), by rw [c2, c3, l1]; omega, by rw [c1, c3, l1]; omega⟩, fun k hk y hy => ?_, fun h4 e4 => ?_⟩
    · rw [c3] at hk
      rw [c2, s1, k7 (i + 1 + k) (by omega)] at hy
      rw [t1]; exact k8 y (List.mem_of_getElem? hy)
    · rw [c1, c2, c3] at e4
      refine fin h4 (fun b => by rw [e4, zt_cps, t1]) (fun b => by rw [e4, zl_cps, l1]) (fun f b => by rw [e4, zi_cps]) (fun f b => by rw [e4, zr_cps, r1]) (fun k b i => by rw [e4, zj_cps, j1]) (fun k b i hk => by rw [e4, zs_cps, if_neg (fun q => hk.elim (fun z => z q.1) (fun z => z q.2.1)), s1]) (fun j hj => ?_)
      rw [e4, zs_cps]
      by_cases q1 : j < i
      · rw [if_neg (fun q => by omega), if_pos q1, s1]; exact k7 j (by omega)
      · rw [if_pos ⟨rfl, rfl, by omega, by omega⟩, if_neg q1, show i + 1 + (j - i) = j + 1 by omega, s1]
        exact k7 (j + 1) (by omega)
theorem zl_remove {G : Nat × Nat × Nat} {Q : Int32 → ZH → Prop} {h : ZH} {a e x i : Nat} {l : List Nat} (hL : zL h a e l) (hx : zt h x = 14) (hi : l[i]? = some x) (hno : ∀ j, j < i → l[j]? ≠ some x)
    (hQ : ∀ h', zL h' a e (l.take i ++ l.drop (i + 1)) → zA h h' a e e → Q 1 h') : fc_J2_remove G a Q h (some x) := by
  have hil := (List.getElem?_eq_some_iff.mp hi).1
  have hL0 := hL
  obtain ⟨k1, k2, k3, k4, k5, k6, k7, k8⟩ := hL
  have ha5 : zt h a ∈ [5] := by rw [k1]; decide
  refine ⟨ha5, fun r1 er => ⟨ha5, fun x2 ex => ⟨(fun w => nomatch w), fun b3 hb3 => ?_⟩⟩⟩
  rw [k3] at er; subst er
  rw [k2] at ex; subst ex
  have loop : ∀ (n j : Nat), j + n = i + 1 → j ≤ i → fc_J2_remove_39 G a Q n h (some x) (some e) (nI l.length) (nI j) := by
    intro n
    induction n with
    | zero => intro j h1 h2; omega
    | succ n ih =>
      intro j h1 h2
      refine ⟨fun w => absurd w (nI_ge (by omega) (by omega)), fun _ => ⟨e, rfl, by rw [k4]; decide, nI_in (by omega) (by omega), x, rfl, ?_⟩⟩
      rw [nI_clamp (by omega), k7 j (by omega)]
      refine zl_equals hx ?_
      by_cases hj : j = i
      · rw [hj, hi, if_pos rfl]
        exact ⟨fun w => absurd w (by decide), fun _ => ⟨k1, zl_fastRemove hL0 hil hQ⟩⟩
      · rw [if_neg (fun q => hno j (by omega) q.symm)]
        refine ⟨fun _ x4 e4 => ?_, fun w => absurd rfl w⟩
        rw [nI_1] at e4; subst e4
        exact ih (j + 1) (by omega) (by omega)
  exact ⟨i + 1, loop _ 0 (by omega) (Nat.zero_le _)⟩
