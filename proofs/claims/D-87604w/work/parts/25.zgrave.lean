/-! METHODS of the component on the picture of a book: a new grave, a new person. -/
set_option maxRecDepth 100000
section ZGR
variable {G : Nat × Nat × Nat} {F : Nat → Prop} {h0 h h' : ZH} {A A' : ZA} {E E' : Nat → Nat} {σ σ' : ZS} {cb b : Nat} {C : Nat → List Nat}
/-- from a place on, the first fault -/
def sAsk (σ : ZS) (R : Nat) (p : Int32) : Nat → Nat → Int32
  | 0, _ => 0
  | m + 1, i => if p + nI i < 0 ∨ ¬ p + nI i < sa σ 6 R then -4 else if ¬ sPut σ R (p + nI i).toNatClampNeg = 0 then -6 else sAsk σ R p m (i + 1)
def sAsks (σ : ZS) (R : Nat) (p k w : Int32) : Int32 :=
  if ¬ sAsk σ R p w.toNatClampNeg 0 = 0 then sAsk σ R p w.toNatClampNeg 0
  else if ¬ k = 4 ∧ ¬ k = 5 ∧ (sTree σ R (p - 1) ∨ sTree σ R (p + w)) then -7 else 0
theorem sAsk_0 {R : Nat} {p : Int32} : ∀ (m i : Nat), sAsk σ R p m i = 0 → ∀ j, i ≤ j → j < i + m → ¬ p + nI j < 0 ∧ p + nI j < sa σ 6 R ∧ sPut σ R (p + nI j).toNatClampNeg = 0 := by
  intro m
  induction m with
  | zero => intro i _ j h1 h2; omega
  | succ m ih =>
    intro i hz j h1 h2
    unfold sAsk at hz
    by_cases q : p + nI i < 0 ∨ ¬ p + nI i < sa σ 6 R
    · rw [if_pos q] at hz; exact absurd hz (by decide)
    · rw [if_neg q] at hz
      by_cases q2 : ¬ sPut σ R (p + nI i).toNatClampNeg = 0
      · rw [if_pos q2] at hz; exact absurd hz (by decide)
      · rw [if_neg q2] at hz
        by_cases hji : j = i
        · subst hji
          exact ⟨fun z => q (Or.inl z), Classical.byContradiction fun z => q (Or.inr z), Classical.byContradiction q2⟩
        · exact ih (i + 1) hz j (by omega) (by omega)
theorem sAsk_neg {R : Nat} {p : Int32} : ∀ (m i : Nat), ¬ sAsk σ R p m i = 0 → sAsk σ R p m i < 0 := by
  intro m
  induction m with
  | zero => intro i hz; exact absurd rfl hz
  | succ m ih =>
    intro i hz
    unfold sAsk at hz ⊢
    by_cases q : p + nI i < 0 ∨ ¬ p + nI i < sa σ 6 R
    · rw [if_pos q]; decide
    · rw [if_neg q] at hz ⊢
      by_cases q2 : ¬ sPut σ R (p + nI i).toNatClampNeg = 0
      · rw [if_pos q2]; decide
      · rw [if_neg q2] at hz ⊢
        exact ih (i + 1) hz
theorem sp_asks (R : rcAll G F h0 A E h σ cb b) (W : sRef σ) {Q : Prop} {XE : String → Nat → ZH → Prop} {bc bs r m : Nat} {p k : Int32} (hr : rcRowLive σ r) (hm : m ≤ 4) (hc : 20 ≤ bc) (hs : 5100 ≤ bs)
    (hX : ∀ v, sAsks σ r p k (nI m) = v → v < 0 → zXr XE h v) (hQ : sAsks σ r p k (nI m) = 0 → Q) : fc_X5_asks G b Q XE h bc bs (some (A 3 r)) p k (nI m) := by
  obtain ⟨l1, l2, l3⟩ := rc_len R hr
  have mc : (nI m).toNatClampNeg = m := nI_clamp (by omega)
  unfold sAsks at hX hQ
  rw [mc] at hX hQ
  have fin : ∀ c1 s1, 1 ≤ c1 → 7 ≤ s1 → sAsk σ r p m 0 = 0 → ((k = 4 → fc_X5_asks_71 G b Q XE h c1 s1) ∧ (¬ k = 4 → ((k = 5 → fc_X5_asks_71 G b Q XE h c1 s1) ∧ (¬ k = 5 → zt h b = 4 ∧ (fc_X5_isTree G b (fun z1 => ((¬ z1 = 0 → fc_X5_asks_75 G b Q XE h c1 s1) ∧ (z1 = 0 → zt h b = 4 ∧ (fc_X5_isTree G b (fun z2 => ((¬ z2 = 0 → fc_X5_asks_75 G b Q XE h c1 s1) ∧ (z2 = 0 → fc_X5_asks_71 G b Q XE h c1 s1))) h (some (A 3 r)) (p + nI m))))) h (some (A 3 r)) (p - 1)))))) := by
    intro c1 s1 h1 h2 hz
    rw [if_neg (fun q => q hz)] at hX hQ
    have good : ¬ (¬ k = 4 ∧ ¬ k = 5 ∧ (sTree σ r (p - 1) ∨ sTree σ r (p + nI m))) → fc_X5_asks_71 G b Q XE h c1 s1 := fun hn => ⟨0, 0, Nat.zero_le _, Nat.zero_le _, sp_ok (hQ (by rw [if_neg hn]))⟩
    have bad : (¬ k = 4 ∧ ¬ k = 5 ∧ (sTree σ r (p - 1) ∨ sTree σ r (p + nI m))) → fc_X5_asks_75 G b Q XE h c1 s1 := fun hy => ⟨_, _, Nat.le_refl _, Nat.le_refl _, sp_no h1 h2 (hX (-7) (by rw [if_pos hy]) (by decide))⟩
    exact ⟨fun z => good fun q => q.1 z, fun z => ⟨fun z2 => good fun q => q.2.1 z2, fun z2 => ⟨R.1.1, sp_isTree R W hr (fun t => ⟨fun _ => bad ⟨z, z2, Or.inl t⟩, fun t2 => absurd t2 (by decide)⟩) (fun t => ⟨fun t2 => absurd rfl t2, fun _ => ⟨R.1.1, sp_isTree R W hr (fun u => ⟨fun _ => bad ⟨z, z2, Or.inr u⟩, fun t2 => absurd t2 (by decide)⟩) (fun u => ⟨fun t2 => absurd rfl t2, fun _ => good fun q => q.2.2.elim t u⟩)⟩⟩)⟩⟩⟩
  have loop : ∀ (n i c1 s1 : Nat), i ≤ m → m + 1 ≤ i + n → 4 * (m - i) + 1 ≤ c1 → 1017 * (m - i) + 7 ≤ s1 → sAsk σ r p m 0 = sAsk σ r p (m - i) i → fc_X5_asks_3 G b Q XE n h c1 s1 (some (A 3 r)) p k (nI m) (nI i) := by
    intro n
    induction n with
    | zero => intro i c1 s1 h1 h2; omega
    | succ n ih =>
      intro i c1 s1 h1 h2 h3 h4 he
      have him' : ¬ nI m ≤ nI i → i < m := fun w => Classical.byContradiction fun q => w (nI_le (by omega) (by omega))
      have e1' : i < m → sAsk σ r p (m - i) i = if p + nI i < 0 ∨ ¬ p + nI i < sa σ 6 r then -4 else if ¬ sPut σ r (p + nI i).toNatClampNeg = 0 then -6 else sAsk σ r p (m - (i + 1)) (i + 1) := by
        intro him
        rw [show m - i = (m - (i + 1)) + 1 by omega]; rfl
      refine ⟨fun w => ?_, fun w => ?_⟩
      · have : i = m := by have := (nI_leI (by omega) (by omega)).mp w; omega
        subst this
        rw [Nat.sub_self] at he
        exact fin c1 s1 (by omega) (by omega) he
      have him := him' w
      have e1 := e1' him
      refine ⟨R.1.1, 4, 1017, by omega, by omega, sp_at R hr (Nat.le_refl _) (Nat.le_refl _) (fun hn => ?_) fun j hj ej => ?_⟩
      · rw [if_pos (Classical.byContradiction fun q => hn ⟨fun z => q (Or.inl z), Classical.byContradiction fun z => q (Or.inr z)⟩)] at e1
        have e4 := he.trans e1
        exact hX (-4) (by rw [if_pos (by rw [e4]; decide), e4]) (by decide)
      have jc : (p + nI i).toNatClampNeg = j := by rw [ej]; exact nI_clamp (by omega)
      rw [if_neg (by rw [ej]; exact fun q => q.elim (nI_pos (by omega)) (fun q => q (by rw [l3]; exact nI_lt hj (by omega)))), jc] at e1
      have hx : sSpot (sn σ 1) (sPut σ r j) := W.2.2.2.1 r hr j hj
      refine ⟨fun e => ⟨0, 0, Nat.zero_le _, Nat.zero_le _, sp_ok fun x5 e5 => ?_⟩, fun b8 e => ⟨1, 7, by omega, by omega, sp_no (Nat.le_refl _) (Nat.le_refl _) ?_⟩⟩
      · rw [nI_1] at e5
        subst e5
        have z0 : sPut σ r j = 0 := by
          rcases rcSpot_tag R hx with ⟨y, z2⟩ | ⟨y, t, z2, z3⟩ | ⟨y, t, z2, z3⟩ | ⟨g, hg, y, -, z2, z3⟩
          · exact y
          all_goals rw [z2] at e; cases e
        rw [if_neg (fun q => q z0)] at e1
        exact ih (i + 1) _ _ (by omega) (by omega) (by omega) (by omega) (he.trans e1)
      · have z0 : ¬ sPut σ r j = 0 := by
          intro q
          rw [q] at e; cases e
        rw [if_pos z0] at e1
        have e4 := he.trans e1
        exact hX (-6) (by rw [if_pos (by rw [e4]; decide), e4]) (by decide)
  exact ⟨m + 1, loop (m + 1) 0 bc bs (by omega) (by omega) (by omega) (by omega) rfl⟩
abbrev sWide (k w : Int32) : Prop := if k = 3 then ¬ w < 2 ∧ ¬ 4 < w else if k = 5 then w = 3 else w = 1
theorem sp_isWide {Q : Int32 → Prop} {k w : Int32} (hQ1 : sWide k w → Q 1) (hQ0 : ¬ sWide k w → Q 0) : fc_X1_isWide G Q h k w := by
  unfold sWide at hQ1 hQ0
  refine ⟨fun a => ?_, fun a => ?_⟩
  · rw [if_neg a] at hQ1 hQ0
    refine ⟨fun a2 => ?_, fun a2 => ?_⟩
    · rw [if_neg a2] at hQ1 hQ0
      exact ⟨fun q => hQ0 q, fun q => hQ1 q⟩
    · rw [if_pos a2] at hQ1 hQ0
      exact ⟨fun q => hQ0 q, fun q => hQ1 q⟩
  · rw [if_pos a] at hQ1 hQ0
    exact ⟨fun q => hQ0 fun z => z.1 q, fun q => ⟨fun q2 => hQ0 fun z => z.2 q2, fun q2 => hQ1 ⟨q, q2⟩⟩⟩
/-- a new grave's attributes -/
def sGv (g : Nat) (k f r p w gr : Int32) : Nat → Int32 := fun c => if c = 10 then k else if c = 600 then nI g else if c = 601 then f else if c = 602 then r else if c = 603 then p else if c = 604 then w else if c = 605 then gr else if c = 607 ∨ c = 609 ∨ c = 613 ∨ c = 614 then -1 else 0
def sgu (σ : ZS) (g : Nat) (v : Nat → Int32) : ZS := (σ.1, (fun k i => if (k = 10 ∨ 600 ≤ k ∧ k < 700) ∧ i = g then v k else σ.2.1 k i), (fun k i => if i = g then [] else σ.2.2.1 k i), σ.2.2.2)
theorem sa_gu (σ : ZS) (g : Nat) (v : Nat → Int32) (k i : Nat) : sa (sgu σ g v) k i = if (k = 10 ∨ 600 ≤ k ∧ k < 700) ∧ i = g then v k else sa σ k i := rfl
theorem sl_gu (σ : ZS) (g : Nat) (v : Nat → Int32) (k i : Nat) : sl (sgu σ g v) k i = if i = g then [] else sl σ k i := rfl
theorem zFr.lst {hh h h' : ZH} {a e g1 : Nat} (fr : zFr hh h) (ha : zt hh a = 0) (he : e = g1 ∨ zt h e = 0) (q1 : ∀ b, b ≠ e ∨ e = g1 → zt h' b = zt h b ∧ zl h' b = zl h b ∧ (∀ k i, zj h' k b i = zj h k b i) ∧ (∀ k i, zs h' k b i = zs h k b i)) (q2 : ∀ f b, b ≠ a → zi h' f b = zi h f b ∧ zr h' f b = zr h f b) : zFr hh h' := by
  intro c hc
  obtain ⟨r1, r2, r3, r4⟩ := fr c hc
  have hce : c ≠ e ∨ e = g1 := he.elim Or.inr fun z => Or.inl fun w => hc (by rw [w]; exact fr.z z)
  obtain ⟨u1, u2, u3, u4⟩ := q1 c hce
  have hca : c ≠ a := fun w => hc (w ▸ ha)
  exact ⟨u1.trans r1, u2.trans r2, fun f => ⟨(q2 f c hca).1.trans (r3 f).1, (q2 f c hca).2.trans (r3 f).2⟩, fun k i => ⟨(u3 k i).trans (r4 k i).1, (u4 k i).trans (r4 k i).2⟩⟩
/-- what a new grave's cells are -/
def zGnew (hh h' : ZH) (G : Nat × Nat × Nat) (a la ea lb eb : Nat) (t : Nat) (v1 v2 v3 v4 v5 v6 : Int32) : Prop :=
  zFr hh h' ∧ zt h' a = t ∧ (zi h' 600 a = v1 ∧ zi h' 601 a = v2 ∧ zi h' 602 a = v3 ∧ zi h' 603 a = v4 ∧ zi h' 604 a = v5 ∧ zi h' 605 a = v6 ∧ zi h' 606 a = 0 ∧ zi h' 608 a = 0 ∧ zi h' 610 a = 0 ∧ zi h' 612 a = 0) ∧ (zr h' 607 a = none ∧ zr h' 609 a = none ∧ zr h' 614 a = none ∧ zr h' 613 a = none ∧ zr h' 611 a = some la ∧ zr h' 615 a = some lb) ∧
  zL h' la ea [] ∧ zL h' lb eb [] ∧ zt hh a = 0 ∧ zt hh la = 0 ∧ zt hh lb = 0 ∧ a ≠ la ∧ a ≠ lb ∧ la ≠ lb ∧ (ea = G.1 ∨ zt hh ea = 0) ∧ (eb = G.1 ∨ zt hh eb = 0) ∧ (ea ≠ eb ∨ ea = G.1)
theorem sp_x9 {hh : ZH} {Q : ZH → Prop} {a bc bs : Nat} {v1 v2 v3 v4 v5 v6 : Int32} (z : zt hh a = 0) (hg : zt hh G.1 = 22 ∧ zl hh G.1 = 0) {t : Nat} (ht : t ∈ [8, 9, 10, 11, 12, 13]) (hc : 4 ≤ bc) (hs : 10 ≤ bs)
    (hQ : ∀ h' la ea lb eb, zGnew hh h' G a la ea lb eb t v1 v2 v3 v4 v5 v6 → Q h') : fc_X9_init G a Q (znew hh a t) bc bs v1 v2 v3 v4 v5 v6 := by
  have t0 : zt (znew hh a t) a = t := by rw [zt_new, if_pos rfl]
  have i0 : ∀ f, zi (znew hh a t) f a = 0 := fun f => by rw [zi_new, if_pos rfl]
  have r0 : ∀ f, zr (znew hh a t) f a = none := fun f => by rw [zr_new, if_pos rfl]
  have fr0 : zFr hh (znew hh a t) := zFr.new z
  generalize znew hh a t = h at *
  have tm : zt h a ∈ [8, 9, 10, 11, 12, 13] := by rw [t0]; exact ht
  have tz : t ≠ 0 := by simp only [List.mem_cons, List.not_mem_nil, or_false] at ht; omega
  refine ⟨tm, fun h1 e1 => ⟨by omega, by omega, fun a2 h3 z2 e3 => ⟨1, 0, by omega, by omega, ?_⟩⟩⟩
  have t1 : zt h1 a = t := by rw [e1]; exact t0
  have fr1 : zFr hh h1 := by rw [e1]; exact zFr.pi z fr0
  have a12 : a ≠ a2 := fun q => by rw [← q, t1] at z2; exact tz z2
  have z2' : zt hh a2 = 0 := fr1.z z2
  have fr3 : zFr hh h3 := by rw [e3]; exact zFr.new' z2' fr1
  have g3 : zt h3 G.1 = 22 ∧ zl h3 G.1 = 0 := by
    obtain ⟨u1, u2, -⟩ := fr3 G.1 (by omega)
    exact ⟨u1.trans hg.1, u2.trans hg.2⟩
  have t3 : zt h3 a = t := by rw [e3, zt_new, if_neg a12]; exact t1
  have t32 : zt h3 a2 = 5 := by rw [e3, zt_new, if_pos rfl]
  have i3 : ∀ f, zi h3 f a = if f = 606 then 0 else 0 := fun f => by
    rw [e3, zi_new, if_neg a12, e1, zi_pi, i0]
    by_cases q : f = 606
    · rw [if_pos ⟨q, rfl⟩, if_pos q]
    · rw [if_neg (fun w => q w.1), if_neg q]
  have i3 : ∀ f, zi h3 f a = 0 := fun f => by rw [i3]; split <;> rfl
  have r3 : ∀ f, zr h3 f a = none := fun f => by rw [e3, zr_new, if_neg a12, e1, zr_pi, r0]
  have n0 : (0 : Int32) = nI 0 := by decide
  have n1 : (1 : Int32) = nI 1 := by decide
  rw [n0]
  refine zl_newN (n := 0) (by omega) t32 (by rw [e3, zi_new, if_pos rfl]) g3 (Nat.le_refl _) (by omega) fun h6 e La he q1 q2 => ?_
  have fr6 : zFr hh h6 := fr3.lst z2' he q1 q2
  have ea0 : e = G.1 ∨ zt hh e = 0 := he.imp id fun w => fr3.z w
  have ane : a ≠ e ∨ e = G.1 := he.elim Or.inr fun w => Or.inl fun q => by rw [← q, t3] at w; exact tz w
  have t6 : zt h6 a = t := (q1 a ane).1.trans t3
  have i6 : ∀ f, zi h6 f a = 0 := fun f => (q2 f a a12).1.trans (i3 f)
  have r6 : ∀ f, zr h6 f a = none := fun f => (q2 f a a12).2.trans (r3 f)
  refine ⟨by rw [t6]; exact ht, fun h7 e7 => ⟨by omega, by omega, fun a8 h9 z8 e9 => ⟨1, 1, by omega, by omega, ?_⟩⟩⟩
  have t7 : zt h7 a = t := by rw [e7]; exact t6
  have fr7 : zFr hh h7 := by rw [e7]; exact zFr.pr z fr6
  have z8' : zt hh a8 = 0 := fr7.z z8
  have a18 : a ≠ a8 := fun q => by rw [← q, t7] at z8; exact tz z8
  have La7 : zL h7 a2 e [] := by
    obtain ⟨k1, k2, k3, k4, k5, k6, k7, k8⟩ := La
    rw [e7]
    exact ⟨k1, k2, by rw [zr_pr, if_neg (fun w => absurd w.1 (by decide))]; exact k3, k4, k5, k6, k7, k8⟩
  have a28 : a2 ≠ a8 := fun q => by rw [← q] at z8; exact La7.ne.1 z8
  have fr9 : zFr hh h9 := by rw [e9]; exact zFr.new' z8' fr7
  have fr79 : zFr h7 h9 := by rw [e9]; exact zFr.new z8
  have La9 := La7.fr fr79
  have g9 : zt h9 G.1 = 22 ∧ zl h9 G.1 = 0 := by
    obtain ⟨u1, u2, -⟩ := fr9 G.1 (by omega)
    exact ⟨u1.trans hg.1, u2.trans hg.2⟩
  have t9 : zt h9 a = t := by rw [e9, zt_new, if_neg a18]; exact t7
  have t98 : zt h9 a8 = 5 := by rw [e9, zt_new, if_pos rfl]
  have i9 : ∀ f, zi h9 f a = 0 := fun f => by rw [e9, zi_new, if_neg a18, e7, zi_pr]; exact i6 f
  have r9 : ∀ f, zr h9 f a = if f = 611 then some a2 else none := fun f => by
    rw [e9, zr_new, if_neg a18, e7, zr_pr, r6]
    by_cases q : f = 611
    · rw [if_pos ⟨q, rfl⟩, if_pos q]
    · rw [if_neg (fun w => q w.1), if_neg q]
  rw [n1]
  refine zl_newN (n := 1) (by omega) t98 (by rw [e9, zi_new, if_pos rfl]) g9 (by omega) (by omega) fun h12 eb Lb heb p1 p2 => ?_
  have fr12 : zFr hh h12 := fr9.lst z8' heb p1 p2
  have fr912 : ∀ c, zt h9 c ≠ 0 → c ≠ a8 → zt h12 c = zt h9 c ∧ zl h12 c = zl h9 c ∧ (∀ f, zi h12 f c = zi h9 f c ∧ zr h12 f c = zr h9 f c) ∧ ∀ k i, zj h12 k c i = zj h9 k c i ∧ zs h12 k c i = zs h9 k c i := by
    intro c hc hca
    have hce : c ≠ eb ∨ eb = G.1 := heb.elim Or.inr fun w => Or.inl fun q => hc (q ▸ w)
    obtain ⟨u1, u2, u3, u4⟩ := p1 c hce
    exact ⟨u1, u2, fun f => p2 f c hca, fun k i => ⟨u3 k i, u4 k i⟩⟩
  have La12 : zL h12 a2 e [] := by
    obtain ⟨w1, w2, w3⟩ := La9.ne
    obtain ⟨k1, k2, k3, k4, k5, k6, k7, k8⟩ := La9
    obtain ⟨u1, u2, u3, u4⟩ := fr912 a2 w1 a28
    have e8 : e ≠ a8 := fun q => by rw [q, t98] at k4; omega
    obtain ⟨x1, x2, x3, x4⟩ := fr912 e w2 e8
    exact ⟨u1.trans k1, (u3 302).1.trans k2, (u3 301).2.trans k3, x1.trans k4, by rw [x2]; exact k5, by rw [x2]; exact k6, fun i hi => absurd hi (Nat.not_lt_zero i), fun x hx => absurd hx (List.not_mem_nil)⟩
  obtain ⟨v1', v2', v3', v4'⟩ := fr912 a (by rw [t9]; exact tz) a18
  have t12 : zt h12 a = t := v1'.trans t9
  have eb0 : eb = G.1 ∨ zt hh eb = 0 := heb.imp id fun w => fr9.z w
  have eeb : e ≠ eb ∨ e = G.1 := by
    rcases heb with w | w
    · by_cases q : e = G.1
      · exact Or.inr q
      · exact Or.inl (by rw [w]; exact q)
    · exact Or.inl fun q => La9.ne.2.1 (q ▸ w)
  refine ⟨by rw [t12]; exact ht, fun h13 e13 => ⟨by rw [e13, zt_pr, t12]; exact ht, fun h14 e14 => ⟨by rw [e14, zt_pi, e13, zt_pr, t12]; exact ht, fun h15 e15 => ⟨by rw [e15, zt_pi, e14, zt_pi, e13, zt_pr, t12]; exact ht, fun h16 e16 => ⟨by rw [e16, zt_pi, e15, zt_pi, e14, zt_pi, e13, zt_pr, t12]; exact ht, fun h17 e17 => ⟨by rw [e17, zt_pi, e16, zt_pi, e15, zt_pi, e14, zt_pi, e13, zt_pr, t12]; exact ht, fun h18 e18 => ⟨by rw [e18, zt_pi, e17, zt_pi, e16, zt_pi, e15, zt_pi, e14, zt_pi, e13, zt_pr, t12]; exact ht, fun h19 e19 => ?_⟩⟩⟩⟩⟩⟩⟩
  have T19 : ∀ c, zt h19 c = zt h12 c := fun c => by rw [e19, e18, e17, e16, e15, e14, e13]; rfl
  have I19 : ∀ f, zi h19 f a = if f = 605 then v6 else if f = 604 then v5 else if f = 603 then v4 else if f = 602 then v3 else if f = 601 then v2 else if f = 600 then v1 else zi h12 f a := fun f => by
    rw [e19, zi_pi, e18, zi_pi, e17, zi_pi, e16, zi_pi, e15, zi_pi, e14, zi_pi, e13, zi_pr]
    simp only [and_true]
  have R19 : ∀ f, zr h19 f a = if f = 615 then some a8 else zr h12 f a := fun f => by
    rw [e19, zr_pi, e18, zr_pi, e17, zr_pi, e16, zr_pi, e15, zr_pi, e14, zr_pi, e13, zr_pr]
    simp only [and_true]
  have i12 : ∀ f, zi h12 f a = 0 := fun f => (v3' f).1.trans (i9 f)
  have r12 : ∀ f, zr h12 f a = if f = 611 then some a2 else none := fun f => (v3' f).2.trans (r9 f)
  have fr19 : zFr hh h19 := by
    rw [e19, e18, e17, e16, e15, e14, e13]
    exact zFr.pi z (zFr.pi z (zFr.pi z (zFr.pi z (zFr.pi z (zFr.pi z (zFr.pr z fr12))))))
  have kp : ∀ c e' : Nat, c ≠ a → zL h12 c e' [] → zL h19 c e' [] := by
    intro c e' hca k
    obtain ⟨k1, k2, k3, k4, k5, k6, k7, k8⟩ := k
    refine ⟨(T19 c).trans k1, ?_, ?_, (T19 e').trans k4, ?_, ?_, fun i hi => absurd hi (Nat.not_lt_zero i), fun x hx => absurd hx (List.not_mem_nil)⟩
    · rw [e19, zi_pi, if_neg (fun w => hca w.2), e18, zi_pi, if_neg (fun w => hca w.2), e17, zi_pi, if_neg (fun w => hca w.2), e16, zi_pi, if_neg (fun w => hca w.2), e15, zi_pi, if_neg (fun w => hca w.2), e14, zi_pi, if_neg (fun w => hca w.2), e13]; exact k2
    · rw [e19, zr_pi, e18, zr_pi, e17, zr_pi, e16, zr_pi, e15, zr_pi, e14, zr_pi, e13, zr_pr, if_neg (fun w => hca w.2)]; exact k3
    · rw [e19, e18, e17, e16, e15, e14, e13]; exact k5
    · rw [e19, e18, e17, e16, e15, e14, e13]; exact k6
  refine hQ h19 a2 e a8 eb ⟨fr19, (T19 a).trans t12, ⟨by rw [I19]; rfl, by rw [I19]; rfl, by rw [I19]; rfl, by rw [I19]; rfl, by rw [I19]; rfl, by rw [I19]; rfl, by rw [I19]; exact i12 606, by rw [I19]; exact i12 608, by rw [I19]; exact i12 610, by rw [I19]; exact i12 612⟩, ⟨by rw [R19]; exact r12 607, by rw [R19]; exact r12 609, by rw [R19]; exact r12 614, by rw [R19]; exact r12 613, by rw [R19]; exact r12 611, by rw [R19]; rfl⟩, kp a2 e (fun q => a12 q.symm) La12, kp a8 eb (fun q => a18 q.symm) Lb, z, z2', z8', a12, a18, a28, ea0, eb0, eeb⟩
theorem sp_x1grave {Q : Option Nat → ZH → Prop} {bc bs : Nat} {v1 v2 v3 v4 k v5 v6 : Int32} (hg : zt h G.1 = 22 ∧ zl h G.1 = 0) (hk1 : ¬ k < 1) (hk6 : ¬ 6 < k) (hc : 5 ≤ bc) (hs : 26 ≤ bs)
    (hQ : ∀ h' a la ea lb eb, zGnew h h' G a la ea lb eb (rcKind k) v1 v2 v3 v4 v5 v6 → Q (some a) h') : fc_X1_newGrave G Q h bc bs v1 v2 v3 v4 k v5 v6 := by
  have kj : ∃ j, 1 ≤ j ∧ j ≤ 6 ∧ k = nI j := by
    have h0 : ¬ k < 0 := fun q => hk1 (Int32.lt_trans q (by decide))
    obtain ⟨j, hj, rfl⟩ := nI_of h0
    refine ⟨j, Classical.byContradiction fun q => hk1 (nI_lt (b := 1) (by omega) (by omega)), Classical.byContradiction fun q => hk6 (nI_lt (a := 6) (by omega) (by omega)), rfl⟩
  obtain ⟨j, j1, j6, rfl⟩ := kj
  have ti : (nI j).toInt = (j : Int) := nI_toInt (by omega)
  have hq : ∀ t, t = rcKind (nI j) → ∀ (a : Nat) (h' : ZH) (la ea lb eb : Nat), zGnew h h' G a la ea lb eb t v1 v2 v3 v4 v5 v6 → Q (some a) h' := fun t e a h' la ea lb eb w => hQ h' a la ea lb eb (e ▸ w)
  refine ⟨fun w => ⟨by omega, by omega, fun a1 h2 z e => ⟨4, 10, by omega, by omega, 4, 10, Nat.le_refl _, Nat.le_refl _, 4, 10, Nat.le_refl _, Nat.le_refl _, e ▸ sp_x9 z hg (by decide) (Nat.le_refl _) (Nat.le_refl _) fun h' la ea lb eb q => hq 13 ?_ a1 h' la ea lb eb q⟩⟩, fun w => ⟨by omega, by omega, fun a1 h2 z e => ⟨4, 10, by omega, by omega, 4, 10, Nat.le_refl _, Nat.le_refl _, e ▸ sp_x9 z hg (by decide) (Nat.le_refl _) (Nat.le_refl _) fun h' la ea lb eb q => hq 8 ?_ a1 h' la ea lb eb q⟩⟩, fun w => ⟨by omega, by omega, fun a1 h2 z e => ⟨4, 10, by omega, by omega, 4, 10, Nat.le_refl _, Nat.le_refl _, 4, 10, Nat.le_refl _, Nat.le_refl _, e ▸ sp_x9 z hg (by decide) (Nat.le_refl _) (Nat.le_refl _) fun h' la ea lb eb q => hq 9 ?_ a1 h' la ea lb eb q⟩⟩, fun w => ⟨by omega, by omega, fun a1 h2 z e => ⟨4, 10, by omega, by omega, 4, 10, Nat.le_refl _, Nat.le_refl _, 4, 10, Nat.le_refl _, Nat.le_refl _, 4, 10, Nat.le_refl _, Nat.le_refl _, e ▸ sp_x9 z hg (by decide) (Nat.le_refl _) (Nat.le_refl _) fun h' la ea lb eb q => hq 10 ?_ a1 h' la ea lb eb q⟩⟩, fun w => ⟨by omega, by omega, fun a1 h2 z e => ⟨4, 10, by omega, by omega, 4, 10, Nat.le_refl _, Nat.le_refl _, 4, 10, Nat.le_refl _, Nat.le_refl _, e ▸ sp_x9 z hg (by decide) (Nat.le_refl _) (Nat.le_refl _) fun h' la ea lb eb q => hq 11 ?_ a1 h' la ea lb eb q⟩⟩, fun w => ⟨by omega, by omega, fun a1 h2 z e => ⟨4, 10, by omega, by omega, 4, 10, Nat.le_refl _, Nat.le_refl _, 4, 10, Nat.le_refl _, Nat.le_refl _, 4, 10, Nat.le_refl _, Nat.le_refl _, e ▸ sp_x9 z hg (by decide) (Nat.le_refl _) (Nat.le_refl _) fun h' la ea lb eb q => hq 12 ?_ a1 h' la ea lb eb q⟩⟩⟩
  · have : j = 6 := by omega
    subst this; rfl
  · have : j = 1 := by omega
    subst this; rfl
  · have : j = 2 := by omega
    subst this; rfl
  · have : j = 3 := by omega
    subst this; rfl
  · have : j = 4 := by omega
    subst this; rfl
  · have : j = 5 := by omega
    subst this; rfl
end ZGR
