/-! THE COMPONENT's own cell: the book, the acts written down, the tape. -/
set_option maxRecDepth 100000
section ZTP
variable {G : Nat × Nat × Nat} {F F' : Nat → Prop} {h0 h h' : ZH} {A A' : ZA} {E E' : Nat → Nat} {σ σ' : ZS} {cb b n : Nat} {C : Nat → List Nat}
/-- an act keeps what holds -/
def zInvStep : Prop := ∀ (n : Nat) (σ : ZS) (v1 v2 v3 v4 v5 v6 r : Int32) (σ' : ZS), n < 24 → sInv n σ → sWorks σ v1 v2 v3 v4 v5 v6 = (r, σ') → ¬ r < 0 → sInv (n + 1) σ'
theorem rc_base (R : rcAll G F h0 A E h σ cb b) : rcAll G F h A E h σ cb b := by
  obtain ⟨B, nb, Hm, P, Gv, Fd, L, St, Ap, Pr⟩ := R
  exact ⟨B, nb, Hm, P, Gv, Fd, L, St, Ap, fun a ha => ⟨by rw [(Pr a ha).2.1]; exact (Pr a ha).1, rfl, rfl, fun _ => ⟨rfl, rfl⟩, fun _ _ _ => ⟨rfl, rfl⟩⟩⟩
theorem rc_sub (R : rcAll G F h0 A E h σ cb b) (hF : ∀ a, F' a → F a) : rcAll G F' h0 A E h σ cb b := by
  obtain ⟨B, nb, Hm, P, Gv, Fd, L, St, Ap, Pr⟩ := R
  obtain ⟨a1, a2, a3, a4, a5, a6, a7, a8, a9⟩ := Ap
  exact ⟨B, fun z => nb (hF _ z), Hm, P, Gv, Fd, L, St, ⟨fun k n hk => ⟨(a1 k n hk).1, fun i hi z => (a1 k n hk).2 i hi (hF _ z)⟩, a2, fun i hi z => a3 i hi (hF _ z), a4, fun i hi => (a5 i hi).imp (fun q z => q (hF _ z)) id, a6, fun i hi z => a7 i hi (hF _ z), a8, fun i hi h1 z => a9 i hi h1 (hF _ z)⟩, fun a ha => Pr a (hF a ha)⟩
/-- nothing of a book was written -/
def zTp (h h' : ZH) (cb : Nat) : Prop := (∀ a, zt h' a = zt h a) ∧ (∀ a, zl h' a = zl h a) ∧ (∀ f a, 200 ≤ f → zi h' f a = zi h f a ∧ zr h' f a = zr h f a) ∧ (zr h' 100 cb = zr h 100 cb ∧ zr h' 101 cb = zr h 101 cb) ∧ (∀ k a i, ¬ k = 0 → zj h' k a i = zj h k a i) ∧ ∀ k a i, zs h' k a i = zs h k a i
theorem zTp.i {f a : Nat} {x : Int32} (hf : f < 200) : zTp h (zpi h f a x) cb := ⟨fun _ => rfl, fun _ => rfl, fun g a hg => ⟨by rw [zi_pi, if_neg (by omega)], rfl⟩, ⟨rfl, rfl⟩, fun _ _ _ _ => rfl, fun _ _ _ => rfl⟩
theorem zTp.r {a : Nat} {x : Option Nat} : zTp h (zpr h 102 a x) cb := ⟨fun _ => rfl, fun _ => rfl, fun g a hg => ⟨rfl, by rw [zr_pr, if_neg (by omega)]⟩, ⟨by rw [zr_pr, if_neg (by omega)], by rw [zr_pr, if_neg (by omega)]⟩, fun _ _ _ _ => rfl, fun _ _ _ => rfl⟩
theorem zTp.c {a sp d dp m : Nat} : zTp h (zcpj h 0 a sp d dp m) cb := ⟨fun _ => rfl, fun _ => rfl, fun _ _ _ => ⟨rfl, rfl⟩, ⟨rfl, rfl⟩, fun k a i hk => by rw [zj_cpj, if_neg (fun z => hk z.1)], fun _ _ _ => rfl⟩
theorem zL.tp {a e : Nat} {l : List Nat} (t : zTp h h' cb) (k : zL h a e l) : zL h' a e l := by
  obtain ⟨s1, s2, s3, -, s5, s6⟩ := t
  obtain ⟨k1, k2, k3, k4, k5, k6, k7, k8⟩ := k
  exact ⟨(s1 a).trans k1, (s3 302 a (by omega)).1.trans k2, (s3 301 a (by omega)).2.trans k3, (s1 e).trans k4, by rw [s2]; exact k5, by rw [s2]; exact k6, fun i hi => (s6 2 e i).trans (k7 i hi), fun x hx => by rw [s1]; exact k8 x hx⟩
theorem rc_tp (t : zTp h h' cb) (R : rcAll G F h A E h σ cb b) : rcAll G F h' A E h' σ cb b := by
  have t0 := t
  obtain ⟨s1, s2, s3, s4, s5, s6⟩ := t
  obtain ⟨B, nb, Hm, P, Gv, Fd, L, St, Ap, Pr⟩ := R
  obtain ⟨a1, a2, a3, a4, a5, a6, a7, a8, a9⟩ := Ap
  refine ⟨?_, nb, ?_, fun p hp => ?_, fun g hg => ?_, fun f hf => ?_, fun j hj => (L j hj).tp t0, fun p hp k hk => ?_, ⟨a1, a2, a3, fun i j hi hj he => by rw [s2]; exact a4 i j hi hj he, fun i hi => by rw [s2]; exact a5 i hi, a6, a7, a8, a9⟩, fun a ha => ⟨by rw [s1]; exact (Pr a ha).1, rfl, rfl, fun _ => ⟨rfl, rfl⟩, fun _ _ _ => ⟨rfl, rfl⟩⟩⟩
  · obtain ⟨b1, b2, b3, b4, b5, b6, b7⟩ := B
    exact ⟨(s1 b).trans b1, (s3 203 b (by omega)).1.trans b2, (s3 204 b (by omega)).1.trans b3, (s3 200 b (by omega)).2.trans b4, (s3 201 b (by omega)).2.trans b5, (s3 202 b (by omega)).2.trans b6, (s3 205 b (by omega)).2.trans b7⟩
  · obtain ⟨q1, ⟨tr, wy, q2, q3, q4, q5⟩, ⟨q6, q7⟩, q8, q9⟩ := Hm
    exact ⟨(s1 cb).trans q1, ⟨tr, wy, s4.1.trans q2, (s1 tr).trans q3, s4.2.trans q4, (s1 wy).trans q5⟩, ⟨(s1 _).trans q6, (s2 _).trans q7⟩, (s1 _).trans q8, (s2 _).trans q9⟩
  · obtain ⟨p1, p2, p3, p4, p5⟩ := P p hp
    exact ⟨(s1 _).trans p1, fun f hf => (s3 f _ (by simp [rcPi] at hf; omega)).1.trans (p2 f hf), fun f hf => (s3 f _ (by simp [rcPr] at hf; omega)).2.trans (p3 f hf), (s3 710 _ (by omega)).2.trans p4, (s3 713 _ (by omega)).2.trans p5⟩
  · obtain ⟨q1, q2, q3, q4, q5, q6⟩ := Gv g hg
    refine ⟨(s1 _).trans q1, fun f hf => (s3 f _ (by simp [rcGi] at hf; omega)).1.trans (q2 f hf), fun f hf => (s3 f _ (by simp [rcGr] at hf; omega)).2.trans (q3 f hf), (s3 611 _ (by omega)).2.trans q4, (s3 615 _ (by omega)).2.trans q5, ?_⟩
    refine q6.imp (fun w => ⟨(s3 613 _ (by omega)).2.trans w.1, w.2⟩) (fun w => ?_)
    obtain ⟨w1, w2, w3, w4, w5⟩ := w
    exact ⟨(s3 613 _ (by omega)).2.trans w1, w2, (s1 _).trans w3, (s2 _).trans w4, fun p hp => (s5 1 _ p (by decide)).trans (w5 p hp)⟩
  · obtain ⟨q1, q2, q3, q4, q5, q6, m, q7, q8, q9⟩ := Fd f hf
    refine ⟨(s1 _).trans q1, (s3 500 _ (by omega)).1.trans q2, (s3 501 _ (by omega)).2.trans q3, (s3 502 _ (by omega)).1.trans q4, (s1 _).trans q5, (s2 _).trans q6, m, q7, q8, fun i hi => ?_⟩
    refine (q9 i hi).imp (fun w => ⟨w.1, (s6 7 _ i).trans w.2⟩) (fun w => ⟨w.1, (s6 7 _ i).trans w.2.1, ?_⟩)
    obtain ⟨r1, r2, r3, r4⟩ := w.2.2
    refine ⟨(s1 _).trans r1, by rw [s2]; exact r2, by rw [s2]; exact r3, fun m hm => ?_⟩
    rw [s2] at hm
    have e : ∀ y, rcSpot A h' cb y = rcSpot A h cb y := fun y => by unfold rcSpot; rw [s4.1, s4.2]
    rw [e, s6]; exact r4 m hm
  · obtain ⟨q1, d, t, q2, q3, q4⟩ := St p hp k hk
    exact ⟨(s1 _).trans q1, d, t, q2, (s3 800 _ (by omega)).1.trans q3, (s3 801 _ (by omega)).2.trans q4⟩
/-- a new book -/
theorem sp_book {Q : ZH → Prop} {bc bs : Nat} (z : zt h b = 0) (Hm : rcHome G h cb) (hc : 4 ≤ bc) (hs : 11 ≤ bs)
    (hQ : ∀ A E h', zFr h h' → rcAll G (fun a => zt h a ≠ 0) h A E h' s0 cb b → Q h') : fc_X5_init G b Q (znew h b 4) bc bs (some cb) := by
  have t0 : zt (znew h b 4) b = 4 := by rw [zt_new, if_pos rfl]
  have fr0 : zFr h (znew h b 4) := zFr.new z
  have i0 : ∀ f, zi (znew h b 4) f b = 0 := fun f => by rw [zi_new, if_pos rfl]
  generalize znew h b 4 = k0 at *
  refine ⟨by rw [t0]; decide, fun k1 e1 => ⟨by omega, by omega, fun a2 k3 z2 e3 => ⟨1, 2, by omega, by omega, ?_⟩⟩⟩
  have fr1 : zFr h k1 := by rw [e1]; exact zFr.pr z fr0
  have t1 : zt k1 b = 4 := by rw [e1]; exact t0
  have z2' := fr1.z z2
  have b2 : b ≠ a2 := fun q => by rw [← q, t1] at z2; exact absurd z2 (by decide)
  have fr3 : zFr h k3 := by rw [e3]; exact zFr.new' z2' fr1
  have home : ∀ {k}, zFr h k → (zt k G.1 = 22 ∧ zl k G.1 = 0) ∧ zt k G.2.1 = 22 ∧ zl k G.2.1 = 0 := fun {k} fr => by
    obtain ⟨u1, u2, -⟩ := fr G.1 (by rw [Hm.2.2.1.1]; decide)
    obtain ⟨v1, v2, -⟩ := fr G.2.1 (by rw [Hm.2.2.2.1]; decide)
    exact ⟨⟨u1.trans Hm.2.2.1.1, u2.trans Hm.2.2.1.2⟩, v1.trans Hm.2.2.2.1, v2.trans Hm.2.2.2.2⟩
  have n2 : (2 : Int32) = nI 2 := by decide
  rw [n2]
  refine zl_newN (n := 2) (by omega) (by rw [e3, zt_new, if_pos rfl]) (by rw [e3, zi_new, if_pos rfl]) (home fr3).1 (Nat.le_refl _) (Nat.le_refl _) fun k6 e L0 he q1 q2 => ?_
  have fr6 : zFr h k6 := fr3.lst z2' he q1 q2
  have ee : e = G.1 ∨ zt h e = 0 := he.imp id fun w => fr3.z w
  have t3 : zt k3 b = 4 := by rw [e3, zt_new, if_neg b2]; exact t1
  have bne : b ≠ e ∨ e = G.1 := he.elim Or.inr fun w => Or.inl fun q => by rw [← q, t3] at w; exact absurd w (by decide)
  have t6 : zt k6 b = 4 := (q1 b bne).1.trans t3
  have i6 : ∀ f, zi k6 f b = 0 := fun f => by rw [(q2 f b b2).1, e3, zi_new, if_neg b2, e1, zi_pr]; exact i0 f
  have r6 : zr k6 205 b = some cb := by rw [(q2 205 b b2).2, e3, zr_new, if_neg b2, e1, zr_pr, if_pos ⟨rfl, rfl⟩]
  refine ⟨by rw [t6]; decide, fun k7 e7 => ⟨by omega, by omega, fun a8 k9 z8 e9 => ?_⟩⟩
  have fr7 : zFr h k7 := by rw [e7]; exact zFr.pr z fr6
  have t7 : zt k7 b = 4 := by rw [e7]; exact t6
  have z8' := fr7.z z8
  have b8 : b ≠ a8 := fun q => by rw [← q, t7] at z8; exact absurd z8 (by decide)
  have L07 : zL k7 a2 e [] := by
    obtain ⟨x1, x2, x3, x4, x5, x6, x7, x8⟩ := L0
    rw [e7]
    exact ⟨x1, x2, by rw [zr_pr, if_neg (fun w => absurd w.1 (by decide))]; exact x3, x4, x5, x6, x7, x8⟩
  have a28 : a2 ≠ a8 := fun q => L07.ne.1 (q ▸ z8)
  have fr9 : zFr h k9 := by rw [e9]; exact zFr.new' z8' fr7
  have L09 : zL k9 a2 e [] := L07.fr (by rw [e9]; exact zFr.new z8)
  refine zl_new0 (by rw [e9, zt_new, if_pos rfl]) (by rw [e9, zi_new, if_pos rfl]) (home fr9).2 fun k10 L1 p1 p2 => ?_
  have fr10 : zFr h k10 := fun c hc => by
    obtain ⟨u1, u2, u3, u4⟩ := fr9 c hc
    have hca : c ≠ a8 := fun q => hc (q ▸ z8')
    exact ⟨(p1 c).1.trans u1, (p1 c).2.1.trans u2, fun f => ⟨(p2 f c hca).1.trans (u3 f).1, (p2 f c hca).2.trans (u3 f).2⟩, fun k i => ⟨((p1 c).2.2.1 k i).trans (u4 k i).1, ((p1 c).2.2.2 k i).trans (u4 k i).2⟩⟩
  have keep : ∀ {k k' : ZH} {x y a : Nat}, zL k x y [] → x ≠ a → (∀ b, zt k' b = zt k b ∧ zl k' b = zl k b ∧ (∀ c i, zj k' c b i = zj k c b i) ∧ (∀ c i, zs k' c b i = zs k c b i)) → (∀ f b, b ≠ a → zi k' f b = zi k f b ∧ zr k' f b = zr k f b) → zL k' x y [] := by
    intro k k' x y a kk hx p1 p2
    obtain ⟨x1, x2, x3, x4, x5, x6, x7, x8⟩ := kk
    exact ⟨(p1 x).1.trans x1, (p2 302 x hx).1.trans x2, (p2 301 x hx).2.trans x3, (p1 y).1.trans x4, by rw [(p1 y).2.1]; exact x5, by rw [(p1 y).2.1]; exact x6, fun i hi => absurd hi (Nat.not_lt_zero i), fun w hw => absurd hw (List.not_mem_nil)⟩
  have L010 : zL k10 a2 e [] := keep L09 a28 p1 p2
  have t10 : zt k10 b = 4 := by rw [(p1 b).1, e9, zt_new, if_neg b8]; exact t7
  have i10 : ∀ f, zi k10 f b = 0 := fun f => by rw [(p2 f b b8).1, e9, zi_new, if_neg b8, e7, zi_pr]; exact i6 f
  have r10 : ∀ f, zr k10 f b = if f = 200 then some a2 else zr k6 f b := fun f => by
    rw [(p2 f b b8).2, e9, zr_new, if_neg b8, e7, zr_pr]
    simp only [and_true]
  refine ⟨by rw [t10]; decide, fun k11 e11 => ⟨by omega, by omega, fun a12 k13 z12 e13 => ?_⟩⟩
  have fr11 : zFr h k11 := by rw [e11]; exact zFr.pr z fr10
  have t11 : zt k11 b = 4 := by rw [e11]; exact t10
  have z12' := fr11.z z12
  have b12 : b ≠ a12 := fun q => by rw [← q, t11] at z12; exact absurd z12 (by decide)
  have kp11 : ∀ {x y : Nat}, zL k10 x y [] → zL k11 x y [] := fun {x y} kk => by
    obtain ⟨x1, x2, x3, x4, x5, x6, x7, x8⟩ := kk
    rw [e11]
    exact ⟨x1, x2, by rw [zr_pr, if_neg (fun w => absurd w.1 (by decide))]; exact x3, x4, x5, x6, x7, x8⟩
  have L011 := kp11 L010
  have L111 := kp11 L1
  have a212 : a2 ≠ a12 := fun q => L011.ne.1 (q ▸ z12)
  have a812 : a8 ≠ a12 := fun q => L111.ne.1 (q ▸ z12)
  have fr13 : zFr h k13 := by rw [e13]; exact zFr.new' z12' fr11
  have frx : zFr k11 k13 := by rw [e13]; exact zFr.new z12
  refine zl_new0 (by rw [e13, zt_new, if_pos rfl]) (by rw [e13, zi_new, if_pos rfl]) (home fr13).2 fun k14 L2 s1 s2 => ?_
  have fr14 : zFr h k14 := fun c hc => by
    obtain ⟨u1, u2, u3, u4⟩ := fr13 c hc
    have hca : c ≠ a12 := fun q => hc (q ▸ z12')
    exact ⟨(s1 c).1.trans u1, (s1 c).2.1.trans u2, fun f => ⟨(s2 f c hca).1.trans (u3 f).1, (s2 f c hca).2.trans (u3 f).2⟩, fun k i => ⟨((s1 c).2.2.1 k i).trans (u4 k i).1, ((s1 c).2.2.2 k i).trans (u4 k i).2⟩⟩
  have L014 : zL k14 a2 e [] := keep (L011.fr frx) a212 s1 s2
  have L114 : zL k14 a8 G.2.1 [] := keep (L111.fr frx) a812 s1 s2
  have t14 : zt k14 b = 4 := by rw [(s1 b).1, e13, zt_new, if_neg b12]; exact t11
  have i14 : ∀ f, zi k14 f b = 0 := fun f => by rw [(s2 f b b12).1, e13, zi_new, if_neg b12, e11, zi_pr]; exact i10 f
  have r14 : ∀ f, zr k14 f b = if f = 201 then some a8 else zr k10 f b := fun f => by
    rw [(s2 f b b12).2, e13, zr_new, if_neg b12, e11, zr_pr]
    simp only [and_true]
  refine ⟨by rw [t14]; decide, fun k15 e15 => ?_⟩
  have fr15 : zFr h k15 := by rw [e15]; exact zFr.pr z fr14
  have kp15 : ∀ {x y : Nat}, zL k14 x y [] → zL k15 x y [] := fun {x y} kk => by
    obtain ⟨x1, x2, x3, x4, x5, x6, x7, x8⟩ := kk
    rw [e15]
    exact ⟨x1, x2, by rw [zr_pr, if_neg (fun w => absurd w.1 (by decide))]; exact x3, x4, x5, x6, x7, x8⟩
  have r15 : ∀ f, zr k15 f b = if f = 202 then some a12 else zr k14 f b := fun f => by
    rw [e15, zr_pr]
    simp only [and_true]
  have zG := (home fr15).2
  have lv : ∀ j, rcLive s0 j → j = 0 ∨ j = 1 ∨ j = 2 := by
    intro j hj
    unfold rcLive at hj
    have e1 : sn s0 1 = 0 := rfl
    have e2 : sn s0 2 = 0 := rfl
    rw [e1, e2] at hj
    omega
  have con : ∀ j, rcLive s0 j → ∀ A, rcCon A s0 j = [] := by
    intro j hj A
    rcases lv j hj with q | q | q <;> subst q <;> rfl
  refine hQ (fun k i => if k = 5 then (if i = 0 then a2 else if i = 1 then a8 else a12) else 0) (fun j => if j = 0 then e else G.2.1) k15 fr15 ⟨?_, fun q => q z, ?_, fun p hp => absurd hp (Nat.not_lt_zero p), fun p hp => absurd hp (Nat.not_lt_zero p), fun p hp => absurd hp (Nat.not_lt_zero p), fun j hj => ?_, fun p hp => absurd hp (Nat.not_lt_zero p), ⟨fun k m hk => ?_, fun i j hi hj he => ?_, fun i hi => ?_, fun i j hi hj he => ?_, fun i hi => ?_, fun i j hi => absurd hi.1 (Nat.not_lt_zero _), fun i hi => absurd hi.1 (Nat.not_lt_zero _), fun i j hi => absurd hi (Nat.not_lt_zero i), fun i hi => absurd hi (Nat.not_lt_zero i)⟩, fun a ha => ⟨ha, fr15.m a ha⟩⟩
  · refine ⟨by rw [e15]; exact t14, by rw [e15, zi_pr]; exact i14 203, by rw [e15, zi_pr]; exact i14 204, ?_, ?_, ?_, ?_⟩
    · rw [r15, if_neg (by omega), r14, if_neg (by omega), r10, if_pos rfl]; rfl
    · rw [r15, if_neg (by omega), r14, if_pos rfl]; rfl
    · rw [r15, if_pos rfl]; rfl
    · rw [r15, if_neg (by omega), r14, if_neg (by omega), r10, if_neg (by omega)]; exact r6
  · exact Hm.kp fr15.K
  · rw [con j hj]
    rcases lv j hj with q | q | q <;> subst q
    · exact kp15 L014
    · exact kp15 L114
    · exact kp15 L2
  · have : m = 0 := by
      rcases hk with q | q | q | q <;> exact q.2
    subst this
    exact ⟨fun i j hi => absurd hi (Nat.not_lt_zero i), fun i hi => absurd hi (Nat.not_lt_zero i)⟩
  · simp only [if_true] at he
    rcases lv i hi with q | q | q <;> rcases lv j hj with w | w | w <;> subst q <;> subst w
    · rfl
    · exact absurd he a28
    · exact absurd he a212
    · exact absurd he.symm a28
    · rfl
    · exact absurd he a812
    · exact absurd he.symm a212
    · exact absurd he.symm a812
    · rfl
  · simp only [if_true]
    rcases lv i hi with q | q | q <;> subst q
    · exact fun q => q z2'
    · exact fun q => q z8'
    · exact fun q => q z12'
  · rcases lv i hi with q | q | q <;> rcases lv j hj with w | w | w <;> subst q <;> subst w
    · exact Or.inl rfl
    · right
      have he : e = G.2.1 := he
      show zl k15 e = 0
      rw [he]; exact zG.2
    · right
      have he : e = G.2.1 := he
      show zl k15 e = 0
      rw [he]; exact zG.2
    · exact Or.inr zG.2
    · exact Or.inl rfl
    · exact Or.inr zG.2
    · exact Or.inr zG.2
    · exact Or.inr zG.2
    · exact Or.inl rfl
  · rcases lv i hi with q | q | q <;> subst q
    · rcases ee with w | w
      · right
        show zl k15 e = 0
        rw [w]; exact (home fr15).1.2
      · exact Or.inl fun q => q w
    · exact Or.inr zG.2
    · exact Or.inr zG.2
end ZTP
