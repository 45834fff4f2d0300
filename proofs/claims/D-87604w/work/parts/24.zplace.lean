/-! METHODS of the component on the picture of a book: places of rows. -/
set_option maxRecDepth 100000
section ZPL
variable {G : Nat × Nat × Nat} {F : Nat → Prop} {h0 h h' : ZH} {A A' : ZA} {E E' : Nat → Nat} {σ σ' : ZS} {cb b : Nat} {C : Nat → List Nat}
/-- a row's length -/
def sLen (σ : ZS) (r : Nat) : Nat := (sa σ 6 r).toNatClampNeg
theorem rc_row (R : rcAll G F h0 A E h σ cb b) {r : Nat} (hr : rcRowLive σ r) : rcRow A h σ cb r := by
  obtain ⟨r1, r2, r3⟩ := hr
  obtain ⟨x1, x2, x3, x4, x5, x6, m', x7, x8, x9⟩ := R.2.2.2.2.2.1 (r / 12) r1
  rw [x8, nI_clamp (by omega)] at r2
  have := x9 (r % 12) r2
  rw [show 12 * (r / 12) + r % 12 = r by omega] at this
  rcases this with y | y
  · rw [y.1] at r3; exact absurd r3 (by decide)
  · exact y.2.2
theorem rc_len (R : rcAll G F h0 A E h σ cb b) {r : Nat} (hr : rcRowLive σ r) : zl h (A 3 r) = sLen σ r ∧ sLen σ r ≤ 30 ∧ sa σ 6 r = nI (sLen σ r) := by
  obtain ⟨w1, w2, w3, w4⟩ := rc_row R hr
  have : sLen σ r = zl h (A 3 r) := by unfold sLen; rw [← w2, nI_clamp (by omega)]
  exact ⟨this.symm, by rw [this]; exact w3, by rw [this]; exact w2.symm⟩
theorem rc_rt (R : rcAll G F h0 A E h σ cb b) {r : Nat} (hr : rcRowLive σ r) : zt h (A 3 r) ∈ [23, 24, 25, 26] ∧ zt h (A 3 r) ∈ [20, 21, 22, 23, 24, 25, 26, 27] := by
  rw [(rc_row R hr).1]
  constructor <;> (repeat' split) <;> decide
/-- what stands in a place -/
abbrev sPut (σ : ZS) (r k : Nat) : Int32 := sa σ 8 (30 * r + k)
theorem sp_at (R : rcAll G F h0 A E h σ cb b) {Q : Option Nat → Prop} {XE : String → Nat → ZH → Prop} {bc bs r : Nat} {p : Int32} (hr : rcRowLive σ r) (hc : 4 ≤ bc) (hs : 1017 ≤ bs)
    (hX : ¬ (¬ p < 0 ∧ p < sa σ 6 r) → zXr XE h (-4)) (hQ : ∀ k, k < sLen σ r → p = nI k → Q (rcSpot A h cb (sPut σ r k))) : fc_X5_at G b Q XE h bc bs (some (A 3 r)) p := by
  obtain ⟨l1, l2, l3⟩ := rc_len R hr
  refine ⟨_, rfl, (rc_rt R hr).1, fun w => ?_, fun w => ⟨by omega, by omega, by omega, fun q2 => sp_ref (by omega) (by omega) (hX fun q => w ?_)⟩⟩
  · obtain ⟨k, hk31, rfl⟩ := nI_of (fun z : p < 0 => w (Or.inl z))
    have hk : k < zl h (A 3 r) := by
      refine Nat.lt_of_not_le fun z => w (Or.inr ?_)
      rw [nI_clamp hk31]; exact z
    rw [nI_clamp hk31, (rc_row R hr).2.2.2 k hk]
    exact hQ k (by omega) rfl
  · obtain ⟨q1, q2⟩ := q
    obtain ⟨k, hk31, rfl⟩ := nI_of q1
    rw [l3] at q2
    have : k < sLen σ r := (nI_ltI hk31 (by omega)).mp q2
    rw [l1]
    exact nI_in this (by omega)
theorem rcSpot_tag (R : rcAll G F h0 A E h σ cb b) {x : Int32} (hx : sSpot (sn σ 1) x) : (x = 0 ∧ rcSpot A h cb x = none) ∨ (x = 1 ∧ ∃ t, rcSpot A h cb x = some t ∧ zt h t = 2) ∨ (x = 2 ∧ ∃ t, rcSpot A h cb x = some t ∧ zt h t = 3) ∨ ∃ g, g < sn σ 1 ∧ x = nI (10 + g) ∧ x - 10 = nI g ∧ rcSpot A h cb x = some (A 1 g) ∧ zt h (A 1 g) = rcKind (sa σ 10 g) := by
  obtain ⟨m1, ⟨tr, wy, m2, m3, m4, m5⟩, m6⟩ := R.2.2.1
  have h31 := rc_sz1 R
  rcases hx with rfl | rfl | rfl | ⟨g, hg, rfl⟩
  · exact Or.inl ⟨rfl, rfl⟩
  · exact Or.inr (Or.inl ⟨rfl, tr, m2, m3⟩)
  · exact Or.inr (Or.inr (Or.inl ⟨rfl, wy, m4, m5⟩))
  · have e : nI (10 + g) - 10 = nI g := by
      have := zs_sub (a := 10 + g) (b := 10) (by omega)
      rw [show (10 + g) - 10 = g by omega] at this
      exact this
    refine Or.inr (Or.inr (Or.inr ⟨g, hg, rfl, e, ?_, (R.2.2.2.2.1 g hg).1⟩))
    unfold rcSpot
    rw [if_neg (fun q => nI_ne0 (by omega) (by omega) q), if_neg (fun q => by have := (nI_eq (a := 10 + g) (b := 1) (by omega) (by omega)).mp q; omega), if_neg (fun q => by have := (nI_eq (a := 10 + g) (b := 2) (by omega) (by omega)).mp q; omega), e, rfx_some _ (by omega)]
theorem sSpot_ge {n : Nat} {x : Int32} (hn : n ≤ 64) (hx : sSpot n x) : (¬ x < 10 ↔ ∃ g, g < n ∧ x = nI (10 + g)) := by
  rcases hx with rfl | rfl | rfl | ⟨g, hg, rfl⟩
  · exact ⟨fun w => absurd (by decide) w, fun ⟨g, hg, e⟩ => by have := (nI_eq (a := 0) (b := 10 + g) (by omega) (by omega)).mp e; omega⟩
  · exact ⟨fun w => absurd (by decide) w, fun ⟨g, hg, e⟩ => by have := (nI_eq (a := 1) (b := 10 + g) (by omega) (by omega)).mp e; omega⟩
  · exact ⟨fun w => absurd (by decide) w, fun ⟨g, hg, e⟩ => by have := (nI_eq (a := 2) (b := 10 + g) (by omega) (by omega)).mp e; omega⟩
  · exact ⟨fun _ => ⟨g, hg, rfl⟩, fun _ => nI_nlt (a := 10 + g) (b := 10) (by omega) (by omega)⟩
theorem rcSpot_in (R : rcAll G F h0 A E h σ cb b) {x : Int32} (hx : sSpot (sn σ 1) x) : ∀ b9, rcSpot A h cb x = some b9 → zt h b9 ∈ [2, 3, 8, 9, 10, 11, 12, 13] := by
  intro b9 e9
  rcases rcSpot_tag R hx with ⟨e, e2⟩ | ⟨e, t, e2, e3⟩ | ⟨e, t, e2, e3⟩ | ⟨g, hg, e, -, e2, e3⟩
  · rw [e2] at e9; cases e9
  · rw [e2] at e9; cases e9; rw [e3]; decide
  · rw [e2] at e9; cases e9; rw [e3]; decide
  · rw [e2] at e9; cases e9; rw [e3]
    have := @rc_tag (sa σ 10 g)
    simp only [List.mem_cons, List.not_mem_nil, or_false] at this ⊢
    omega
theorem rcSpot_in' (R : rcAll G F h0 A E h σ cb b) {x : Int32} (hx : sSpot (sn σ 1) x) : ∀ b9, rcSpot A h cb x = some b9 → zt h b9 ∈ [8, 9, 10, 11, 12, 13, 2, 3] := fun b9 e9 => by
  have := rcSpot_in R hx b9 e9
  simp only [List.mem_cons, List.not_mem_nil, or_false] at this ⊢
  omega
/-- a grave or none -/
theorem rcSpot_gr (R : rcAll G F h0 A E h σ cb b) {x : Int32} (hx : sSpot (sn σ 1) x) : zin h (rcSpot A h cb x) [8, 9, 10, 11, 12, 13] = (if x < 10 then 0 else 1) := by
  rcases rcSpot_tag R hx with ⟨e, e2⟩ | ⟨e, t, e2, e3⟩ | ⟨e, t, e2, e3⟩ | ⟨g, hg, e, -, e2, e3⟩
  · rw [e2, e]; rfl
  · rw [e2, e]; unfold zin; simp only []; rw [e3]; decide
  · rw [e2, e]; unfold zin; simp only []; rw [e3]; decide
  · rw [e2]; unfold zin; simp only []
    have h64 := rc_sz1 R
    rw [e3, if_neg ((sSpot_ge h64 hx).mpr ⟨g, hg, e⟩), if_pos]
    have := @rc_tag (sa σ 10 g)
    exact List.contains_iff_mem.mpr this
theorem sp_isGrave (R : rcAll G F h0 A E h σ cb b) {Q : Int32 → Prop} {bc bs : Nat} {x : Int32} (hx : sSpot (sn σ 1) x) (hc : 3 ≤ bc) (hs : 1010 ≤ bs) (hQ1 : ¬ x < 10 → Q 1) (hQ0 : x < 10 → Q 0) : fc_X5_isGrave G b Q h bc bs (rcSpot A h cb x) := by
  have h64 := rc_sz1 R
  refine ⟨rcSpot_in' R hx, fun w => ⟨fun e => hQ0 ?_, fun b1 e => hQ1 ?_⟩, fun w => ⟨hc, hs, fun q2 => hQ0 ?_⟩⟩
  · rcases rcSpot_tag R hx with ⟨z, z2⟩ | ⟨z, t, z2, z3⟩ | ⟨z, t, z2, z3⟩ | ⟨g, hg, z, -, z2, z3⟩
    · rw [z]; decide
    · rw [z]; decide
    · rw [z]; decide
    · rw [z2] at e; cases e
  · have m := w b1 e
    rcases rcSpot_tag R hx with ⟨z, z2⟩ | ⟨z, t, z2, z3⟩ | ⟨z, t, z2, z3⟩ | ⟨g, hg, z, -, z2, z3⟩
    · rw [z2] at e; cases e
    · rw [z2] at e; cases e; rw [z3] at m; exact absurd m (by decide)
    · rw [z2] at e; cases e; rw [z3] at m; exact absurd m (by decide)
    · exact (sSpot_ge h64 hx).mpr ⟨g, hg, z⟩
  · refine Classical.byContradiction fun q => w fun b9 e9 => ?_
    obtain ⟨g, hg, z⟩ := (sSpot_ge h64 hx).mp q
    rcases rcSpot_tag R hx with ⟨z, z2⟩ | ⟨z, t, z2, z3⟩ | ⟨z, t, z2, z3⟩ | ⟨g, hg, z, -, z2, z3⟩
    · rw [z] at q; exact absurd (by decide) q
    · rw [z] at q; exact absurd (by decide) q
    · rw [z] at q; exact absurd (by decide) q
    · rw [z2] at e9; cases e9; rw [z3]; exact rc_tag
/-- a tree in a place -/
abbrev sTree (σ : ZS) (r : Nat) (p : Int32) : Prop := ¬ p < 0 ∧ p < sa σ 6 r ∧ sPut σ r p.toNatClampNeg = 1
/-- a grave in a place that shuns trees -/
abbrev sShun (σ : ZS) (r : Nat) (p : Int32) : Prop := ¬ p < 0 ∧ p < sa σ 6 r ∧ ¬ sPut σ r p.toNatClampNeg < 10 ∧ ¬ sa σ 10 (sPut σ r p.toNatClampNeg - 10).toNatClampNeg = 4 ∧ ¬ sa σ 10 (sPut σ r p.toNatClampNeg - 10).toNatClampNeg = 5
theorem sp_isTree (R : rcAll G F h0 A E h σ cb b) (W : sRef σ) {Q : Int32 → Prop} {r : Nat} {p : Int32} (hr : rcRowLive σ r) (hQ1 : sTree σ r p → Q 1) (hQ0 : ¬ sTree σ r p → Q 0) : fc_X5_isTree G b Q h (some (A 3 r)) p := by
  obtain ⟨l1, l2, l3⟩ := rc_len R hr
  refine ⟨fun w => hQ0 fun q => q.1 w, fun w => ⟨_, rfl, (rc_rt R hr).2, fun w2 => hQ0 fun q => ?_, fun w2 => ?_⟩⟩
  · rw [l1, ← l3] at w2
    exact absurd q.2.1 (Int32.not_lt.mpr w2)
  · obtain ⟨k, hk31, rfl⟩ := nI_of w
    have hk : k < zl h (A 3 r) := Classical.byContradiction fun q => w2 (nI_le (by omega) hk31)
    have hx : sSpot (sn σ 1) (sPut σ r k) := W.2.2.2.1 r hr k (by rw [l1] at hk; exact hk)
    refine ⟨(rc_rt R hr).1, nI_in hk (by omega), ?_⟩
    have e : zs h 3 (A 3 r) (nI k).toNatClampNeg = rcSpot A h cb (sPut σ r k) := by rw [nI_clamp hk31]; exact (rc_row R hr).2.2.2 k hk
    have tr : sTree σ r (nI k) ↔ sPut σ r k = 1 := by
      unfold sTree
      rw [nI_clamp hk31]
      exact ⟨fun q => q.2.2, fun q => ⟨w, by rw [l3]; exact nI_lt (by omega) (by omega), q⟩⟩
    rw [e]
    refine ⟨rcSpot_in R hx, fun z => hQ0 fun q => ?_, fun z => hQ1 ?_⟩
    · rw [tr] at q
      rcases rcSpot_tag R hx with ⟨y, z2⟩ | ⟨y, t, z2, z3⟩ | ⟨y, t, z2, z3⟩ | ⟨g, hg, y, -, z2, z3⟩
      · rw [y] at q; exact absurd q (by decide)
      · rw [z2] at z
        unfold zin at z; simp only [] at z; rw [z3] at z; exact absurd z (by decide)
      · rw [y] at q; exact absurd q (by decide)
      · have h64 := rc_sz1 R
        rw [y] at q
        have := (nI_eq (a := 10 + g) (b := 1) (by omega) (by omega)).mp q
        omega
    · rw [tr]
      rcases rcSpot_tag R hx with ⟨y, z2⟩ | ⟨y, t, z2, z3⟩ | ⟨y, t, z2, z3⟩ | ⟨g, hg, y, -, z2, z3⟩
      · rw [z2] at z; exact absurd rfl z
      · exact y
      · rw [z2] at z
        unfold zin at z; simp only [] at z; rw [z3] at z; exact absurd (by decide) z
      · rw [z2] at z
        unfold zin at z; simp only [] at z; rw [z3] at z
        refine absurd ?_ z
        have := rcKind_pos (sa σ 10 g)
        rw [if_neg]
        simp only [List.contains_cons, List.contains_nil, Bool.or_false, beq_iff_eq]
        omega
theorem sp_shuns (R : rcAll G F h0 A E h σ cb b) (W : sRef σ) {Q : Int32 → Prop} {r : Nat} {p : Int32} (hr : rcRowLive σ r) (hQ1 : sShun σ r p → Q 1) (hQ0 : ¬ sShun σ r p → Q 0) : fc_X5_shuns G b Q h (some (A 3 r)) p := by
  obtain ⟨l1, l2, l3⟩ := rc_len R hr
  have h64 := rc_sz1 R
  refine ⟨fun w => hQ0 fun q => q.1 w, fun w => ⟨_, rfl, (rc_rt R hr).2, fun w2 => hQ0 fun q => ?_, fun w2 => ?_⟩⟩
  · rw [l1, ← l3] at w2
    exact absurd q.2.1 (Int32.not_lt.mpr w2)
  · obtain ⟨k, hk31, rfl⟩ := nI_of w
    have hk : k < zl h (A 3 r) := Classical.byContradiction fun q => w2 (nI_le (by omega) hk31)
    have hx : sSpot (sn σ 1) (sPut σ r k) := W.2.2.2.1 r hr k (by rw [l1] at hk; exact hk)
    have e : zs h 3 (A 3 r) (nI k).toNatClampNeg = rcSpot A h cb (sPut σ r k) := by rw [nI_clamp hk31]; exact (rc_row R hr).2.2.2 k hk
    have hin := nI_in hk (by omega)
    have sh : sShun σ r (nI k) ↔ ¬ sPut σ r k < 10 ∧ ¬ sa σ 10 (sPut σ r k - 10).toNatClampNeg = 4 ∧ ¬ sa σ 10 (sPut σ r k - 10).toNatClampNeg = 5 := by
      unfold sShun
      rw [nI_clamp hk31]
      exact ⟨fun q => q.2.2, fun q => ⟨w, by rw [l3]; exact nI_lt (by omega) (by omega), q⟩⟩
    refine ⟨(rc_rt R hr).1, hin, ?_⟩
    rw [e, rcSpot_gr R hx]
    refine ⟨rcSpot_in' R hx, fun z => hQ0 fun q => ?_, fun z => ⟨(rc_rt R hr).1, hin, ?_⟩⟩
    · rw [if_neg (sh.mp q).1] at z; exact absurd z (by decide)
    · have z : ¬ sPut σ r k < 10 := fun q => z (if_pos q)
      obtain ⟨g, hg, y⟩ := (sSpot_ge h64 hx).mp z
      rcases rcSpot_tag R hx with ⟨y, z2⟩ | ⟨y, t, z2, z3⟩ | ⟨y, t, z2, z3⟩ | ⟨g, hg, y, y2, z2, z3⟩
      · rw [y] at z; exact absurd (by decide) z
      · rw [y] at z; exact absurd (by decide) z
      · rw [y] at z; exact absurd (by decide) z
      · rw [y2, nI_clamp (by omega)] at sh
        refine ⟨fun b9 e9 => by rw [z2] at e9; cases e9; exact rc_gt R hg, A 1 g, z2, rc_gt R hg, fun m => ⟨fun q => absurd q (by decide), fun _ => hQ1 (sh.mpr ⟨z, ?_, ?_⟩)⟩, fun m => ⟨fun _ => hQ0 fun q => ?_, fun q => absurd rfl q⟩⟩
        · intro q; rw [z3, q] at m; exact absurd m (by decide)
        · intro q; rw [z3, q] at m; exact absurd m (by decide)
        · obtain ⟨-, q1, q2⟩ := sh.mp q
          rw [z3] at m
          unfold rcKind at m
          repeat' split at m
          all_goals first | exact absurd m (by decide) | exact absurd ‹_› q1 | exact absurd ‹_› q2
/-- places filled, from one on -/
def sru (σ : ZS) (lo m : Nat) (x : Int32) : ZS := (σ.1, (fun k i => if k = 8 ∧ lo ≤ i ∧ i < lo + m then x else σ.2.1 k i), σ.2.2)
theorem sa_ru (σ : ZS) (lo m : Nat) (x : Int32) (k i : Nat) : sa (sru σ lo m x) k i = if k = 8 ∧ lo ≤ i ∧ i < lo + m then x else sa σ k i := rfl
theorem sa_ru_ne {σ : ZS} {lo m k i : Nat} {x : Int32} (h : ¬ k = 8) : sa (sru σ lo m x) k i = sa σ k i := if_neg (fun q => h q.1)
theorem sru_0 (σ : ZS) (lo : Nat) (x : Int32) : sru σ lo 0 x = σ := by
  unfold sru
  refine Prod.ext rfl (Prod.ext ?_ rfl)
  funext k i
  exact if_neg (by omega)
theorem sru_s (σ : ZS) (lo m : Nat) (x : Int32) : sau (sru σ lo m x) 8 (lo + m) x = sru σ lo (m + 1) x := by
  unfold sru sau
  refine Prod.ext rfl (Prod.ext ?_ rfl)
  funext k i
  show (if k = 8 ∧ i = lo + m then x else if k = 8 ∧ lo ≤ i ∧ i < lo + m then x else σ.2.1 k i) = if k = 8 ∧ lo ≤ i ∧ i < lo + (m + 1) then x else σ.2.1 k i
  by_cases q : k = 8 ∧ i = lo + m
  · rw [if_pos q, if_pos (by omega)]
  · rw [if_neg q]
    by_cases q2 : k = 8 ∧ lo ≤ i ∧ i < lo + m
    · rw [if_pos q2, if_pos (by omega)]
    · rw [if_neg q2, if_neg (by omega)]
theorem sru_row {lo m r : Nat} {x : Int32} : rcRowLive (sru σ lo m x) r ↔ rcRowLive σ r := Iff.rfl
/-- only places of rows were written -/
def zS3 (h h' : ZH) : Prop := (∀ a, zt h' a = zt h a) ∧ (∀ a, zl h' a = zl h a) ∧ (∀ f a, zi h' f a = zi h f a) ∧ (∀ f a, zr h' f a = zr h f a) ∧ (∀ k a i, zj h' k a i = zj h k a i) ∧ ∀ k a i, ¬ k = 3 → zs h' k a i = zs h k a i
theorem zS3.rf : zS3 h h := ⟨fun _ => rfl, fun _ => rfl, fun _ _ => rfl, fun _ _ => rfl, fun _ _ _ => rfl, fun _ _ _ _ => rfl⟩
theorem zS3.ps {a k : Nat} {q : Option Nat} (r : zS3 h h') : zS3 h (zps h' 3 a k q) := ⟨r.1, r.2.1, r.2.2.1, r.2.2.2.1, r.2.2.2.2.1, fun k' a' i' hk => by rw [zs_ps, if_neg (fun w => hk w.1)]; exact r.2.2.2.2.2 k' a' i' hk⟩
theorem sp_store (R : rcAll G F h0 A E h σ cb b) {Q : ZH → Prop} {XE : String → Nat → ZH → Prop} {bc bs r k m : Nat} {x : Int32} {q4 : Option Nat} (hr : rcRowLive σ r) (hkm : k + m ≤ sLen σ r) (hq : q4 = rcSpot A h cb x)
    (hT : ∀ b9, q4 = some b9 → zt h b9 ∈ [2, 3, 8, 9, 10, 11, 12, 13]) (hok : ∀ b9, q4 = some b9 → zt h b9 ∈ zas (zt h (A 3 r) - 20))
    (hQ : ∀ h', rcAll G F h0 A E h' (sru σ (30 * r + k) m x) cb b → zS3 h h' → Q h') : fc_X5_store G b Q XE h bc bs (some (A 3 r)) (nI k) (nI m) q4 := by
  obtain ⟨l1, l2, l3⟩ := rc_len R hr
  have loop : ∀ (n j : Nat) (hh : ZH), j ≤ m → m + 1 ≤ j + n → rcAll G F h0 A E hh (sru σ (30 * r + k) j x) cb b → zS3 h hh → fc_X5_store_3 G b Q XE n hh bc bs (some (A 3 r)) (nI k) (nI m) q4 (nI (k + j)) := by
    intro n
    induction n with
    | zero => intro j hh h1 h2; omega
    | succ n ih =>
      intro j hh h1 h2 Rj s3
      refine ⟨fun w => ?_, fun w => ?_⟩
      · rw [nI_add] at w
        have : k + m ≤ k + j := (nI_leI (by omega) (by omega)).mp w
        have e : j = m := by omega
        subst e
        exact hQ hh Rj s3
      · have hjm : j < m := Classical.byContradiction fun q => w (by rw [nI_add]; exact nI_le (by omega) (by omega))
        have hl : vp_in (nI (k + j)) (zl hh (A 3 r)) := by rw [s3.2.1, l1]; exact nI_in (by omega) (by omega)
        refine ⟨_, rfl, by rw [s3.1]; exact (rc_rt R hr).1, hl, fun b9 e9 => by rw [s3.1]; exact hT b9 e9, fun _ h2 e2 x3 e3 => ?_, fun q => absurd (fun b9 e9 => by rw [s3.1, s3.1]; exact hok b9 e9) q⟩
        rw [nI_clamp (by omega)] at e2
        subst e2
        rw [nI_1] at e3
        subst e3
        have q' : q4 = rcSpot A hh cb x := by rw [hq]; unfold rcSpot; rw [s3.2.2.2.1, s3.2.2.2.1]
        have R2 := rc_S3 (r := r) (k := k + j) (x := x) Rj (sru_row.mpr hr) (by omega) q'
        rw [show 30 * r + (k + j) = 30 * r + k + j by omega, sru_s] at R2
        exact ih (j + 1) _ (by omega) (by omega) R2 s3.ps
  exact ⟨m + 1, by have := loop (m + 1) 0 h (by omega) (by omega) (by rw [sru_0]; exact R) zS3.rf; exact this⟩
theorem sp_storeNo (R : rcAll G F h0 A E h σ cb b) {Q : ZH → Prop} {XE : String → Nat → ZH → Prop} {bc bs r k m : Nat} {q4 : Option Nat} (hr : rcRowLive σ r) (hm : 0 < m) (hkm : k + m ≤ sLen σ r)
    (hT : ∀ b9, q4 = some b9 → zt h b9 ∈ [2, 3, 8, 9, 10, 11, 12, 13]) (hno : ¬ ∀ b9, q4 = some b9 → zt h b9 ∈ zas (zt h (A 3 r) - 20)) (hc : 4 ≤ bc) (hs : 1017 ≤ bs)
    (hX : zXr XE h (-8)) : fc_X5_store G b Q XE h bc bs (some (A 3 r)) (nI k) (nI m) q4 := by
  obtain ⟨l1, l2, l3⟩ := rc_len R hr
  refine ⟨1, fun w => ?_, fun w => ⟨_, rfl, (rc_rt R hr).1, by rw [l1]; exact nI_in (by omega) (by omega), hT, fun q => absurd q hno, fun _ => ⟨by omega, by omega, fun q5 => sp_ref (by omega) (by omega) hX⟩⟩⟩
  rw [nI_add] at w
  exact absurd w (nI_ge (by omega) (by omega))
/-- whether a row of a sort takes a grave of a kind -/
abbrev sKindOk (s k : Int32) : Prop := s = 0 ∨ s = 1 ∨ (s = 2 ∧ (k = 4 ∨ k = 5)) ∨ (¬ s = 0 ∧ ¬ s = 1 ∧ ¬ s = 2 ∧ (k = 2 ∨ k = 3))
theorem zas_kind {s k : Int32} : rcKind k ∈ zas ((if s = 0 then 23 else if s = 1 then 24 else if s = 2 then 25 else 26) - 20) ↔ sKindOk s k := by
  have := rcKind_pos k
  unfold sKindOk
  by_cases h0 : s = 0
  · subst h0
    refine ⟨fun _ => Or.inl rfl, fun _ => ?_⟩
    show rcKind k ∈ [2, 3, 8, 9, 10, 11, 12, 13]
    simp only [List.mem_cons, List.not_mem_nil, or_false]; omega
  rw [if_neg h0]
  by_cases h1 : s = 1
  · subst h1
    refine ⟨fun _ => Or.inr (Or.inl rfl), fun _ => ?_⟩
    exact rc_tag
  rw [if_neg h1]
  by_cases h2 : s = 2
  · subst h2
    have : rcKind k ∈ [11, 12] ↔ (k = 4 ∨ k = 5) := by
      unfold rcKind
      by_cases k1 : k = 1
      · subst k1; decide
      by_cases k2 : k = 2
      · subst k2; decide
      by_cases k3 : k = 3
      · subst k3; decide
      by_cases k4 : k = 4
      · subst k4; decide
      by_cases k5 : k = 5
      · subst k5; decide
      simp [k1, k2, k3, k4, k5]
    refine ⟨fun w => Or.inr (Or.inr (Or.inl ⟨rfl, this.mp w⟩)), fun w => this.mpr ?_⟩
    rcases w with w | w | w | w
    · exact absurd w h0
    · exact absurd w h1
    · exact w.2
    · exact absurd rfl w.2.2.1
  rw [if_neg h2]
  have : rcKind k ∈ [9, 10] ↔ (k = 2 ∨ k = 3) := by
    unfold rcKind
    by_cases k1 : k = 1
    · subst k1; decide
    by_cases k2 : k = 2
    · subst k2; decide
    by_cases k3 : k = 3
    · subst k3; decide
    by_cases k4 : k = 4
    · subst k4; decide
    by_cases k5 : k = 5
    · subst k5; decide
    simp [k1, k2, k3, k4, k5]
  refine ⟨fun w => Or.inr (Or.inr (Or.inr ⟨h0, h1, h2, this.mp w⟩)), fun w => this.mpr ?_⟩
  rcases w with w | w | w | w
  · exact absurd w h0
  · exact absurd w h1
  · exact absurd w.1 h2
  · exact w.2.2.2
/-- the act 'place', in a row there is -/
def sPlaceR (σ : ZS) (R : Nat) (p w : Int32) : Int32 × ZS :=
  if ¬ p < 0 ∧ p < sa σ 6 R then
    if ¬ w < 0 ∧ ¬ 2 < w then
      if sPut σ R p.toNatClampNeg < 10 then
        if w = 1 ∧ (sShun σ R (p - 1) ∨ sShun σ R (p + 1)) then (-7, σ)
        else if ¬ w = 0 ∧ ¬ sa σ 5 R = 0 then (-8, σ)
        else (0, sau σ 8 (30 * R + p.toNatClampNeg) w)
      else (-6, σ)
    else (-1, σ)
  else (-4, σ)
def sPlace (σ : ZS) (f r p w : Int32) : Int32 × ZS := if sRowF σ f r = 0 then sPlaceR σ (12 * f.toNatClampNeg + r.toNatClampNeg) p w else (sRowF σ f r, σ)
theorem sp_place (R : rcAll G F h0 A E h σ cb b) (W : sRef σ) {Q : Int32 → ZH → Prop} {XE : String → Nat → ZH → Prop} {bc bs : Nat} {f r p w : Int32} (hc : 20 ≤ bc) (hs : 5000 ≤ bs)
    (hX : ∀ v', sPlace σ f r p w = (v', σ) → v' < 0 → zXr XE h v')
    (hQ : ∀ v σ' A' E' h', sPlace σ f r p w = (v, σ') → ¬ v < 0 → rcAll G F h0 A' E' h' σ' cb b → Q v h') : fc_X5_place G b Q XE h bc bs f r p w := by
  have hb4 : zt h b ∈ [4] := by rw [R.1.1]; decide
  have h64 := rc_sz1 R
  refine ⟨R.1.1, 2, 1007, by omega, by omega, sp_row R (Nat.le_refl _) (Nat.le_refl _) (fun v hv hn => hX v (by unfold sPlace; rw [if_neg (by rw [hv]; exact fun q => by rw [q] at hn; exact absurd hn (by decide)), hv]) hn) fun i j hi hj ef er hr hrow hz => ⟨R.1.1, 4, 1017, by omega, by omega, ?_⟩⟩
  have base : sPlace σ f r p w = sPlaceR σ (12 * i + j) p w := by
    unfold sPlace
    have := rc_sz0 R
    rw [if_pos hz, ef, er, nI_clamp (by omega), nI_clamp (by omega)]
  rw [base] at hX hQ
  generalize 12 * i + j = r' at *
  obtain ⟨l1, l2, l3⟩ := rc_len R hr
  refine sp_at R hr (Nat.le_refl _) (Nat.le_refl _) (fun hn => hX (-4) (by unfold sPlaceR; rw [if_neg hn]) (by decide)) fun k hk ek => ?_
  subst ek
  have kc : (nI k).toNatClampNeg = k := nI_clamp (by omega)
  have base2 : sPlaceR σ r' (nI k) w = if ¬ w < 0 ∧ ¬ 2 < w then
      if sPut σ r' k < 10 then
        if w = 1 ∧ (sShun σ r' (nI k - 1) ∨ sShun σ r' (nI k + 1)) then (-7, σ)
        else if ¬ w = 0 ∧ ¬ sa σ 5 r' = 0 then (-8, σ)
        else (0, sau σ 8 (30 * r' + k) w)
      else (-6, σ)
    else (-1, σ) := by
    unfold sPlaceR
    rw [if_pos ⟨nI_pos (by omega), by rw [l3]; exact nI_lt hk (by omega)⟩, kc]
  rw [base2] at hX hQ
  have bad1 : ¬ (¬ w < 0 ∧ ¬ 2 < w) → fc_X5_place_32 G b Q XE h (bc - 2 - 4) (bs - 1007 - 1017) (nI k) w (some (A 3 r')) (rcSpot A h cb (sPut σ r' k)) := fun hn => ⟨_, _, Nat.le_refl _, Nat.le_refl _, sp_no (by omega) (by omega) (hX (-1) (by rw [if_neg hn]) (by decide))⟩
  refine ⟨fun q => bad1 fun z => z.1 q, fun q => ⟨fun q2 => bad1 fun z => z.2 q2, fun q2 => ?_⟩⟩
  rw [if_pos ⟨q, q2⟩] at hX hQ
  have hx : sSpot (sn σ 1) (sPut σ r' k) := W.2.2.2.1 r' hr k hk
  refine ⟨0, 0, Nat.zero_le _, Nat.zero_le _, sp_ok ⟨R.1.1, 3, 1010, by omega, by omega, sp_isGrave R hx (Nat.le_refl _) (Nat.le_refl _) (fun z => ⟨fun _ => ⟨_, _, Nat.le_refl _, Nat.le_refl _, sp_no (by omega) (by omega) (hX (-6) (by rw [if_neg z]) (by decide))⟩, fun z2 => absurd z2 (by decide)⟩) (fun z => ⟨fun z2 => absurd rfl z2, fun _ => ?_⟩)⟩⟩
  rw [if_pos z] at hX hQ
  -- what is put there
  have wj : ∃ j, j ≤ 2 ∧ w = nI j := by
    obtain ⟨j, hj31, e⟩ := nI_of q
    exact ⟨j, Classical.byContradiction fun y => q2 (by rw [e]; exact nI_lt (a := 2) (by omega) (by omega)), e⟩
  have put : ∀ (x : Int32) (q4 : Option Nat) (c1 s1 : Nat), 4 ≤ c1 → 1017 ≤ s1 → x = w → (w = 0 ∨ w = 1 ∨ w = 2) → q4 = rcSpot A h cb w → ¬ (w = 1 ∧ (sShun σ r' (nI k - 1) ∨ sShun σ r' (nI k + 1))) → fc_X5_place_133 G b Q XE h c1 s1 (some (A 3 r')) (nI k) 1 q4 := by
    intro x q4 c1 s1 hc1 hs1 hxw hw hq4 hns
    rw [if_neg hns] at hX hQ
    refine ⟨R.1.1, c1, s1, Nat.le_refl _, Nat.le_refl _, ?_⟩
    have hsp : sSpot (sn σ 1) w := hw.imp id (Or.imp id Or.inl)
    have hT : ∀ b9, q4 = some b9 → zt h b9 ∈ [2, 3, 8, 9, 10, 11, 12, 13] := fun b9 e9 => rcSpot_in R hsp b9 (hq4 ▸ e9)
    have tg := (rc_row R hr).1
    have one : (1 : Int32) = nI 1 := by decide
    by_cases hsort : w = 0 ∨ sa σ 5 r' = 0
    · rw [if_neg (fun y => hsort.elim y.1 y.2)] at hX hQ
      rw [one]
      refine sp_store R hr (by omega) hq4 hT (fun b9 e9 => ?_) fun h' R' _ => hQ _ _ A E h' rfl (by decide) ?_
      · rcases hsort with y | y
        · rw [hq4, y] at e9; cases e9
        · rw [tg, if_pos y]; exact hT b9 e9
      · have e := sru_s σ (30 * r' + k) 0 w
        rw [sru_0] at e
        rw [show 30 * r' + k + 0 = 30 * r' + k by omega] at e
        rw [e]; exact R'
    · have n0 : ¬ w = 0 := fun y => hsort (Or.inl y)
      have n1 : ¬ sa σ 5 r' = 0 := fun y => hsort (Or.inr y)
      rw [if_pos ⟨n0, n1⟩] at hX
      rw [one]
      refine sp_storeNo R hr (by omega) (by omega) hT (fun y => ?_) hc1 hs1 (hX (-8) rfl (by decide))
      have w12 : ∃ t, q4 = some t ∧ (zt h t = 2 ∨ zt h t = 3) := by
        obtain ⟨m1, ⟨tr, wy, m2, m3, m4, m5⟩, m6⟩ := R.2.2.1
        rcases hw with v | v | v
        · exact absurd v n0
        · exact ⟨tr, by rw [hq4, v]; exact m2, Or.inl m3⟩
        · exact ⟨wy, by rw [hq4, v]; exact m4, Or.inr m5⟩
      obtain ⟨t, et, ht⟩ := w12
      have := y t et
      rw [tg, if_neg n1] at this
      rcases ht with v | v <;> rw [v] at this <;> (repeat' split at this) <;> exact absurd this (by decide)
  have w012 : w = 0 ∨ w = 1 ∨ w = 2 := by
    obtain ⟨j, hj, e⟩ := wj
    have : j = 0 ∨ j = 1 ∨ j = 2 := by omega
    rcases this with y | y | y <;> subst y
    · exact Or.inl e
    · exact Or.inr (Or.inl e)
    · exact Or.inr (Or.inr e)
  have m1c : zt h cb ∈ [1] := by rw [R.2.2.1.1]; decide
  have fin : ¬ (w = 1 ∧ (sShun σ r' (nI k - 1) ∨ sShun σ r' (nI k + 1))) → ∀ c1 s1, 4 ≤ c1 → 1017 ≤ s1 → fc_X5_place_86 G b Q XE h c1 s1 (nI k) w (some (A 3 r')) := by
    intro hns c1 s1 h1 h2
    refine ⟨0, 0, Nat.zero_le _, Nat.zero_le _, sp_ok ⟨fun y => ⟨fun y1 => ⟨hb4, cb, R.1.2.2.2.2.2.2, m1c, ?_⟩, fun y1 => ⟨hb4, cb, R.1.2.2.2.2.2.2, m1c, ?_⟩⟩, fun y => ?_⟩⟩
    · have w2 : w = 2 := by rcases w012 with v | v | v <;> first | exact absurd v y | exact absurd v y1 | exact v
      exact put w _ _ _ h1 h2 rfl w012 (by rw [w2]; rfl) hns
    · exact put w _ _ _ h1 h2 rfl w012 (by rw [y1]; rfl) hns
    · exact put w _ _ _ h1 h2 rfl w012 (by rw [y]; rfl) hns
  have bad7 : (w = 1 ∧ (sShun σ r' (nI k - 1) ∨ sShun σ r' (nI k + 1))) → ∀ c1 s1, 1 ≤ c1 → 7 ≤ s1 → fc_X5_place_90 G b Q XE h c1 s1 (nI k) w (some (A 3 r')) := fun hy c1 s1 h1 h2 => ⟨_, _, Nat.le_refl _, Nat.le_refl _, sp_no h1 h2 (hX (-7) (by rw [if_pos hy]) (by decide))⟩
  refine ⟨0, 0, Nat.zero_le _, Nat.zero_le _, sp_ok ⟨fun y => fin (fun v => y v.1) _ _ (by omega) (by omega), fun y => ⟨R.1.1, sp_shuns R W hr (fun v => ⟨fun _ => bad7 ⟨y, Or.inl v⟩ _ _ (by omega) (by omega), fun v2 => absurd v2 (by decide)⟩) (fun v => ⟨fun v2 => absurd rfl v2, fun _ => ⟨R.1.1, sp_shuns R W hr (fun u => ⟨fun _ => bad7 ⟨y, Or.inr u⟩ _ _ (by omega) (by omega), fun v2 => absurd v2 (by decide)⟩) (fun u => ⟨fun v2 => absurd rfl v2, fun _ => fin (fun t => t.2.elim v u) _ _ (by omega) (by omega)⟩)⟩⟩)⟩⟩⟩
theorem zpi_same {f a : Nat} {x : Int32} (e : zi h f a = x) : zpi h f a x = h := by
  unfold zpi
  refine Prod.ext rfl (Prod.ext rfl (Prod.ext ?_ rfl))
  funext f' a'
  show (if f' = f ∧ a' = a then x else h.2.2.1 f' a') = h.2.2.1 f' a'
  by_cases q : f' = f ∧ a' = a
  · rw [if_pos q, q.1, q.2]; exact e.symm
  · rw [if_neg q]
theorem sau_same {k i : Nat} {x : Int32} (e : sa σ k i = x) : sau σ k i x = σ := by
  unfold sau
  refine Prod.ext rfl (Prod.ext ?_ rfl)
  funext k' i'
  show (if k' = k ∧ i' = i then x else σ.2.1 k' i') = σ.2.1 k' i'
  by_cases q : k' = k ∧ i' = i
  · rw [if_pos q, q.1, q.2]; exact e.symm
  · rw [if_neg q]
/-- the act 'tear' -/
def sTear (σ : ZS) (f r : Int32) : Int32 × ZS :=
  if sRowF σ f r = 0 then
    if ∃ k, k < sLen σ (12 * f.toNatClampNeg + r.toNatClampNeg) ∧ ¬ sPut σ (12 * f.toNatClampNeg + r.toNatClampNeg) k < 10 then (-6, σ)
    else (0, sau σ 501 (12 * f.toNatClampNeg + r.toNatClampNeg) (-1))
  else (sRowF σ f r, σ)
theorem sp_tear (R : rcAll G F h0 A E h σ cb b) (W : sRef σ) {Q : Int32 → ZH → Prop} {XE : String → Nat → ZH → Prop} {bc bs : Nat} {f r : Int32} (hc : 4 ≤ bc) (hs : 1020 ≤ bs)
    (hX : ∀ v', sTear σ f r = (v', σ) → v' < 0 → zXr XE h v')
    (hQ : ∀ v σ' A' E' h', sTear σ f r = (v, σ') → ¬ v < 0 → rcAll G F h0 A' E' h' σ' cb b → Q v h') : fc_X5_tear G b Q XE h bc bs f r := by
  have hb4 : zt h b ∈ [4] := by rw [R.1.1]; decide
  have h64 := rc_sz1 R
  have h640 := rc_sz0 R
  have L0 := rc_ls R (j := 0) (Or.inl (by omega))
  refine ⟨R.1.1, 2, 1007, by omega, by omega, sp_row R (Nat.le_refl _) (Nat.le_refl _) (fun v hv hn => hX v (by unfold sTear; rw [if_neg (by rw [hv]; exact fun q => by rw [q] at hn; exact absurd hn (by decide)), hv]) hn) fun i j hi hj ef er hr hrow hz => ⟨_, rfl, (rc_rt R hr).2, fun x7 e7 => ?_⟩⟩
  have base : sTear σ f r = if ∃ k, k < sLen σ (12 * i + j) ∧ ¬ sPut σ (12 * i + j) k < 10 then (-6, σ) else (0, sau σ 501 (12 * i + j) (-1)) := by
    unfold sTear
    rw [if_pos hz, ef, er, nI_clamp (by omega), nI_clamp (by omega)]
  rw [base] at hX hQ
  obtain ⟨l1, l2, l3⟩ := rc_len R hr
  rw [l1] at e7
  subst e7
  subst ef
  subst er
  obtain ⟨f1, f2, f3, f4, f5, f6, m, f7, f8, f9⟩ := R.2.2.2.2.2.1 i hi
  have hjm : j < m := by
    have := hr.2.1
    rw [show (12 * i + j) / 12 = i by omega, show (12 * i + j) % 12 = j by omega, f8, nI_clamp (by omega)] at this
    exact this
  have loop : ∀ (n k : Nat), k ≤ sLen σ (12 * i + j) → sLen σ (12 * i + j) + 1 ≤ k + n → (∀ k', k' < k → sPut σ (12 * i + j) k' < 10) → fc_X5_tear_18 G b Q XE n h (bc - 2) (bs - 1007) (nI i) (nI j) (some (A 3 (12 * i + j))) (nI (sLen σ (12 * i + j))) (nI k) := by
    intro n
    induction n with
    | zero => intro k h1 h2; omega
    | succ n ih =>
      intro k h1 h2 hall
      refine ⟨fun w => ⟨hb4, A 5 0, R.1.2.2.2.1, L0.1, sp_fget R hi ⟨fun b9 e9 => by cases e9; rw [f1]; decide, _, rfl, by rw [f1]; decide, A 7 i, f3, by rw [f5]; decide, by rw [f6]; exact nI_in (by omega) (by omega), fun b9 e9 => (nomatch e9), fun h5 e5 => ?_⟩⟩, fun w => ?_⟩
      · have hk : k = sLen σ (12 * i + j) := by have := (nI_leI (by omega) (by omega)).mp w; omega
        rw [nI_clamp (by omega)] at e5
        subst e5
        rw [if_neg (fun ⟨k', hk', q⟩ => q (hall k' (by omega)))] at hQ
        have R2 := rc_F7 R (f := i) (n := j) (m := m) (q := none) (x := nI m) (y := -1) hi hj f7 rfl (fun i' h1 _ => by rw [f8, nI_clamp (by omega)]; exact h1) (fun _ => Or.inl ⟨rfl, rfl⟩) (fun y => absurd y (by decide))
        rw [zpi_same (by rw [zi_ps, f4, f8]), sau_same (k := 502) (by rw [sa_au, if_neg (by omega), f8])] at R2
        exact hQ _ _ _ _ _ rfl (by decide) R2
      · have hk : k < sLen σ (12 * i + j) := Classical.byContradiction fun q => w (nI_le (by omega) (by omega))
        have hx : sSpot (sn σ 1) (sPut σ (12 * i + j) k) := W.2.2.2.1 _ hr k hk
        refine ⟨_, rfl, (rc_rt R hr).1, by rw [l1]; exact nI_in hk (by omega), fun r7 e7 => ?_⟩
        rw [nI_clamp (by omega), (rc_row R hr).2.2.2 k (by omega)] at e7
        subst e7
        refine ⟨rcSpot_in' R hx, ?_⟩
        rw [rcSpot_gr R hx]
        refine ⟨fun y => ?_, fun y => ⟨0, 0, Nat.zero_le _, Nat.zero_le _, sp_ok fun x5 e5 => ?_⟩⟩
        · have y : ¬ sPut σ (12 * i + j) k < 10 := fun q => y (if_pos q)
          rw [if_pos ⟨k, hk, y⟩] at hX
          exact ⟨_, _, Nat.le_refl _, Nat.le_refl _, sp_no (by omega) (by omega) (hX (-6) rfl (by decide))⟩
        · rw [nI_1] at e5
          subst e5
          have y : sPut σ (12 * i + j) k < 10 := Classical.byContradiction fun q => by rw [if_neg q] at y; exact absurd y (by decide)
          refine ih (k + 1) (by omega) (by omega) fun k' hk' => ?_
          by_cases q : k' = k
          · rw [q]; exact y
          · exact hall k' (by omega)
  exact ⟨31, loop 31 0 (by omega) (by omega) (fun k' hk' => absurd hk' (Nat.not_lt_zero _))⟩
end ZPL
