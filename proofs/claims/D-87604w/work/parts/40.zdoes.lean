/-! THE COMPONENT's acts written down, tried, taken back. -/
set_option maxRecDepth 100000
section ZDS
variable {G : Nat × Nat × Nat} {F F' : Nat → Prop} {h0 h h' : ZH} {A A' : ZA} {E E' : Nat → Nat} {σ σ' : ZS} {cb b ac tp n m t k : Nat} {L P : Nat → Int32}
/-- the cells that no act writes -/
def zF0 (cb ac tp : Nat) : Nat → Prop := fun a => a = cb ∨ a = ac ∨ a = tp
def rcTop (cb ac tp b m t k : Nat) (L P : Nat → Int32) (h : ZH) : Prop :=
  (zt h cb = 1 ∧ zr h 102 cb = some b ∧ zr h 103 cb = some ac ∧ zi h 104 cb = nI m ∧ zr h 105 cb = some tp ∧ zi h 106 cb = nI t ∧ zi h 107 cb = nI k) ∧ (zt h ac = 20 ∧ zl h ac = 2400 ∧ zt h tp = 20 ∧ zl h tp = 2400 ∧ ac ≠ tp) ∧ (∀ i, i < 6 * m → zj h 0 ac i = L i) ∧ ∀ i, i < 6 * t → zj h 0 tp i = P i
theorem rcTop.sm (T : rcTop cb ac tp b m t k L P h) (hm : m ≤ 400) (ht : t ≤ 400) (hs : ∀ a, zF0 cb ac tp a → zSm h h' a) : rcTop cb ac tp b m t k L P h' := by
  obtain ⟨⟨t1, t2, t3, t4, t5, t6, t7⟩, ⟨u1, u2, u3, u4, u5⟩, v1, v2⟩ := T
  obtain ⟨c1, c2, c3, c4⟩ := hs cb (Or.inl rfl)
  obtain ⟨a1, a2, a3, a4⟩ := hs ac (Or.inr (Or.inl rfl))
  obtain ⟨p1, p2, p3, p4⟩ := hs tp (Or.inr (Or.inr rfl))
  exact ⟨⟨c1.trans t1, (c3 102).2.trans t2, (c3 103).2.trans t3, (c3 104).1.trans t4, (c3 105).2.trans t5, (c3 106).1.trans t6, (c3 107).1.trans t7⟩, ⟨a1.trans u1, a2.trans u2, p1.trans u3, p2.trans u4, u5⟩, fun i hi => (a4 0 i (by omega)).1.trans (v1 i hi), fun i hi => (p4 0 i (by omega)).1.trans (v2 i hi)⟩
/-- the book that acts make -/
def sRun (L : Nat → Int32) : Nat → ZS
  | 0 => s0
  | i + 1 => (sWorks (sRun L i) (L (6 * i)) (L (6 * i + 1)) (L (6 * i + 2)) (L (6 * i + 3)) (L (6 * i + 4)) (L (6 * i + 5))).2
def sAns (L : Nat → Int32) (i : Nat) : Int32 := (sWorks (sRun L i) (L (6 * i)) (L (6 * i + 1)) (L (6 * i + 2)) (L (6 * i + 3)) (L (6 * i + 4)) (L (6 * i + 5))).1
def sGood (L : Nat → Int32) (n : Nat) : Prop := ∀ i, i < n → ¬ sAns L i < 0
theorem sRun_congr {L L' : Nat → Int32} : ∀ n, (∀ i, i < 6 * n → L' i = L i) → sRun L' n = sRun L n := by
  intro n
  induction n with
  | zero => intro _; rfl
  | succ n ih =>
    intro he
    show (sWorks (sRun L' n) (L' (6 * n)) (L' (6 * n + 1)) (L' (6 * n + 2)) (L' (6 * n + 3)) (L' (6 * n + 4)) (L' (6 * n + 5))).2 = _
    rw [ih fun i hi => he i (by omega), he (6 * n) (by omega), he (6 * n + 1) (by omega), he (6 * n + 2) (by omega), he (6 * n + 3) (by omega), he (6 * n + 4) (by omega), he (6 * n + 5) (by omega)]
    rfl
theorem sAns_congr {L L' : Nat → Int32} (i : Nat) (he : ∀ j, j < 6 * (i + 1) → L' j = L j) : sAns L' i = sAns L i := by
  unfold sAns
  rw [sRun_congr i fun j hj => he j (by omega), he (6 * i) (by omega), he (6 * i + 1) (by omega), he (6 * i + 2) (by omega), he (6 * i + 3) (by omega), he (6 * i + 4) (by omega), he (6 * i + 5) (by omega)]
theorem sGood_congr {L L' : Nat → Int32} {n : Nat} (g : sGood L n) (he : ∀ j, j < 6 * n → L' j = L j) : sGood L' n := fun i hi => by
  rw [sAns_congr i fun j hj => he j (by omega)]; exact g i hi
theorem sGood.le {L : Nat → Int32} {n i : Nat} (g : sGood L n) (h : i ≤ n) : sGood L i := fun j hj => g j (by omega)
theorem sRun_inv (S : zInvStep) {L : Nat → Int32} : ∀ n, n ≤ 24 → sGood L n → sInv n (sRun L n) := by
  intro n
  induction n with
  | zero => intro _ _; exact s0_inv
  | succ n ih =>
    intro hn g
    exact S n (sRun L n) _ _ _ _ _ _ (sAns L n) _ (by omega) (ih (by omega) (g.le (Nat.le_succ n))) rfl (g n (Nat.lt_succ_self n))
/-- THE WHOLE COMPONENT: m acts written down, t taped, k tries -/
def rcX (G : Nat × Nat × Nat) (cb ac tp m t k : Nat) (L P : Nat → Int32) (h : ZH) : Prop := ∃ b A E, rcTop cb ac tp b m t k L P h ∧ rcAll G (zF0 cb ac tp) h A E h (sRun L m) cb b ∧ sGood L m
/-- one more row of six -/
def zRow6 (L : Nat → Int32) (m : Nat) (v1 v2 v3 v4 v5 v6 : Int32) : Nat → Int32 := fun i => if i < 6 * m then L i else if i = 6 * m then v1 else if i = 6 * m + 1 then v2 else if i = 6 * m + 2 then v3 else if i = 6 * m + 3 then v4 else if i = 6 * m + 4 then v5 else v6
theorem zRow6_lo {i : Nat} {v1 v2 v3 v4 v5 v6 : Int32} (hi : i < 6 * m) : zRow6 L m v1 v2 v3 v4 v5 v6 i = L i := if_pos hi
theorem sRun_row {v1 v2 v3 v4 v5 v6 : Int32} : sRun (zRow6 L m v1 v2 v3 v4 v5 v6) (m + 1) = (sWorks (sRun L m) v1 v2 v3 v4 v5 v6).2 ∧ sAns (zRow6 L m v1 v2 v3 v4 v5 v6) m = (sWorks (sRun L m) v1 v2 v3 v4 v5 v6).1 := by
  have e : sRun (zRow6 L m v1 v2 v3 v4 v5 v6) m = sRun L m := sRun_congr m fun i hi => zRow6_lo hi
  have r0 : zRow6 L m v1 v2 v3 v4 v5 v6 (6 * m) = v1 := by unfold zRow6; rw [if_neg (by omega), if_pos rfl]
  have r1 : zRow6 L m v1 v2 v3 v4 v5 v6 (6 * m + 1) = v2 := by unfold zRow6; rw [if_neg (by omega), if_neg (by omega), if_pos rfl]
  have r2 : zRow6 L m v1 v2 v3 v4 v5 v6 (6 * m + 2) = v3 := by unfold zRow6; rw [if_neg (by omega), if_neg (by omega), if_neg (by omega), if_pos rfl]
  have r3 : zRow6 L m v1 v2 v3 v4 v5 v6 (6 * m + 3) = v4 := by unfold zRow6; rw [if_neg (by omega), if_neg (by omega), if_neg (by omega), if_neg (by omega), if_pos rfl]
  have r4 : zRow6 L m v1 v2 v3 v4 v5 v6 (6 * m + 4) = v5 := by unfold zRow6; rw [if_neg (by omega), if_neg (by omega), if_neg (by omega), if_neg (by omega), if_neg (by omega), if_pos rfl]
  have r5 : zRow6 L m v1 v2 v3 v4 v5 v6 (6 * m + 5) = v6 := by unfold zRow6; rw [if_neg (by omega), if_neg (by omega), if_neg (by omega), if_neg (by omega), if_neg (by omega), if_neg (by omega)]
  constructor
  · show (sWorks (sRun (zRow6 L m v1 v2 v3 v4 v5 v6) m) _ _ _ _ _ _).2 = _
    rw [e, r0, r1, r2, r3, r4, r5]
  · unfold sAns
    rw [e, r0, r1, r2, r3, r4, r5]
/-- six numbers copied into an array -/
theorem sp_write {Q : ZH → Prop} {a bc bs : Nat} {v1 v2 v3 v4 v5 v6 : Int32} (ha : zt h a = 20) (hl : zl h a = 2400) (hm : m < 400) (hc : 1 ≤ bc) (hs : 6 ≤ bs)
    (hQ : ∀ h2 h', zFr h h2 → zTp h2 h' cb → (∀ c, zt h c ≠ 0 → ∀ f, zi h' f c = zi h2 f c ∧ zr h' f c = zr h2 f c) → (∀ i, i < 6 * m → zj h' 0 a i = zj h 0 a i) → (zj h' 0 a (6 * m) = v1 ∧ zj h' 0 a (6 * m + 1) = v2 ∧ zj h' 0 a (6 * m + 2) = v3 ∧ zj h' 0 a (6 * m + 3) = v4 ∧ zj h' 0 a (6 * m + 4) = v5 ∧ zj h' 0 a (6 * m + 5) = v6) → (∀ c i, zt h c ≠ 0 → c ≠ a → zj h' 0 c i = zj h2 0 c i) → Q h') : fc_X1_write G Q h bc bs (some a) (nI m) v1 v2 v3 v4 v5 v6 := by
  refine ⟨by decide, by decide, hc, hs, fun a1 h2 z e2 => ?_⟩
  have e2 : h2 = zarr h a1 0 6 := e2
  have t1 : zt h2 a1 = 20 := by rw [e2, zt_arr, if_pos rfl]
  have l1 : zl h2 a1 = 6 := by rw [e2, zl_arr, if_pos rfl]
  have na : a ≠ a1 := fun q => by rw [← q, ha] at z; exact absurd z (by decide)
  refine ⟨t1, by rw [l1]; unfold vp_in; decide, fun h3 e3 => ⟨by rw [e3]; exact t1, by rw [e3, zl_pj, l1]; unfold vp_in; decide, fun h4 e4 => ⟨by rw [e4, e3]; exact t1, by rw [e4, e3, zl_pj, zl_pj, l1]; unfold vp_in; decide, fun h5 e5 => ⟨by rw [e5, e4, e3]; exact t1, by rw [e5, e4, e3, zl_pj, zl_pj, zl_pj, l1]; unfold vp_in; decide, fun h6 e6 => ⟨by rw [e6, e5, e4, e3]; exact t1, by rw [e6, e5, e4, e3, zl_pj, zl_pj, zl_pj, zl_pj, l1]; unfold vp_in; decide, fun h7 e7 => ⟨by rw [e7, e6, e5, e4, e3]; exact t1, by rw [e7, e6, e5, e4, e3, zl_pj, zl_pj, zl_pj, zl_pj, zl_pj, l1]; unfold vp_in; decide, fun h8 e8 => ?_⟩⟩⟩⟩⟩⟩
  have fr2 : zFr h h2 := by rw [e2]; exact zFr.arr z zFr.rf
  have pj : ∀ {k : ZH} {i : Nat} {x : Int32}, zFr h k → zFr h (zpj k 0 a1 i x) := by
    intro k i x r c hc
    have hne : c ≠ a1 := fun q => hc (q ▸ z)
    obtain ⟨r1, r2, r3, r4⟩ := r c hc
    exact ⟨r1, r2, r3, fun k' i' => ⟨by rw [zj_pj, if_neg (fun w => hne w.2.1)]; exact (r4 k' i').1, (r4 k' i').2⟩⟩
  have fr8 : zFr h h8 := by rw [e8, e7, e6, e5, e4, e3]; exact pj (pj (pj (pj (pj (pj fr2)))))
  have mc : 6 * nI m = nI (6 * m) := by
    show nI 6 * nI m = _
    rw [pk_mul]
  have l8 : zl h8 a1 = 6 := by rw [e8, e7, e6, e5, e4, e3]; exact l1
  have la8 : zl h8 a = 2400 := (fr8 a (by rw [ha]; decide)).2.1.trans hl
  have ta8 : zt h8 a = 20 := (fr8 a (by rw [ha]; decide)).1.trans ha
  refine ⟨a, rfl, by rw [e8, e7, e6, e5, e4, e3]; exact t1, ta8, by rw [la8]; decide, ⟨by decide, by rw [mc]; exact nI_pos (by omega), by decide, by rw [l8]; decide, by rw [mc, nI_clamp (by omega), la8]; show 6 * m + 6 ≤ 2400; omega⟩, fun h10 e10 => ?_⟩
  rw [mc, nI_clamp (by omega)] at e10
  have e10 : h10 = zcpj h8 0 a1 0 a (6 * m) 6 := e10
  have el : ∀ j, j < 6 → zj h10 0 a (6 * m + j) = zj h8 0 a1 j := fun j hj => by
    rw [e10, zj_cpj, if_pos ⟨rfl, rfl, by omega, by omega⟩]
    congr 1; omega
  have A8 : zj h8 0 a1 0 = v1 ∧ zj h8 0 a1 1 = v2 ∧ zj h8 0 a1 2 = v3 ∧ zj h8 0 a1 3 = v4 ∧ zj h8 0 a1 4 = v5 ∧ zj h8 0 a1 5 = v6 := by
    rw [e8, e7, e6, e5, e4, e3]
    simp [zj_pj]
  obtain ⟨x1, x2, x3, x4, x5, x6⟩ := A8
  refine hQ h8 h10 fr8 (by rw [e10]; exact zTp.c) (fun c hc f => ?_) (fun i hi => ?_) ⟨(el 0 (by omega)).trans x1, (el 1 (by omega)).trans x2, (el 2 (by omega)).trans x3, (el 3 (by omega)).trans x4, (el 4 (by omega)).trans x5, (el 5 (by omega)).trans x6⟩ (fun c i hc hca => ?_)
  · rw [e10]; exact ⟨rfl, rfl⟩
  · rw [e10, zj_cpj, if_neg (by omega)]; exact ((fr8 a (by rw [ha]; decide)).2.2.2 0 i).1
  · rw [e10, zj_cpj, if_neg (fun w => hca w.2.1)]
/-- an act of the whole component -/
theorem sp_does (S : zInvStep) (X : rcX G cb ac tp m t k L P h) (hm : m < 24) (ht : t ≤ 24) {Q : Int32 → ZH → Prop} {bc bs : Nat} {v1 v2 v3 v4 v5 v6 : Int32} (hc : zCC m + 1 ≤ bc) (hs : zCS m + 6 ≤ bs)
    (hQ0 : (sWorks (sRun L m) v1 v2 v3 v4 v5 v6).1 < 0 → ∀ h', rcX G cb ac tp m t k L P h' → Q (sWorks (sRun L m) v1 v2 v3 v4 v5 v6).1 h')
    (hQ1 : ¬ (sWorks (sRun L m) v1 v2 v3 v4 v5 v6).1 < 0 → ∀ h', rcX G cb ac tp (m + 1) t k (zRow6 L m v1 v2 v3 v4 v5 v6) P h' → Q (sWorks (sRun L m) v1 v2 v3 v4 v5 v6).1 h') : fc_X1_does G cb Q h bc bs v1 v2 v3 v4 v5 v6 := by
  obtain ⟨b, A, E, T, R, g⟩ := X
  have T0 := T
  obtain ⟨⟨t1, t2, t3, t4, t5, t6, t7⟩, ⟨u1, u2, u3, u4, u5⟩, w1, w2⟩ := T
  have m1 : zt h cb ∈ [1] := by rw [t1]; decide
  have I := sRun_inv S m (by omega) g
  refine ⟨m1, fun _ => ⟨m1, b, t2, R.1.1, zCC m, zCS m, by omega, by omega, sp_works R I (Nat.le_refl _) (Nat.le_refl _) (fun v' e hv q h7 z6 z400 fr => ⟨rfl, q, rfl, by rw [z6]; decide, ?_⟩) (fun r σ' A' E' h5 e nn R5 => ?_)⟩, fun z => ?_⟩
  · have e1 : (sWorks (sRun L m) v1 v2 v3 v4 v5 v6).1 = v' := by rw [e]
    have q0 := hQ0 (by rw [e1]; exact hv) h7 ⟨b, A, E, T0.sm (by omega) (by omega) fun a ha => fr.m a (R.2.2.2.2.2.2.2.2.2 a ha).1, rc_base (rc_fr R fr), g⟩
    rw [e1] at q0
    rw [z400]; exact q0
  · have e1 : (sWorks (sRun L m) v1 v2 v3 v4 v5 v6).1 = r := by rw [e]
    have e2 : (sWorks (sRun L m) v1 v2 v3 v4 v5 v6).2 = σ' := by rw [e]
    have T5 := T0.sm (by omega) (by omega) fun a ha => (R5.2.2.2.2.2.2.2.2.2 a ha).2
    have R5 := rc_base R5
    have T5' := T5
    obtain ⟨⟨y1, y2, y3, y4, y5, y6, y7⟩, ⟨x1, x2, x3, x4, x5⟩, s1, s2⟩ := T5
    have m5 : zt h5 cb ∈ [1] := by rw [y1]; decide
    refine ⟨m5, m5, 1, 6, by omega, by omega, ?_⟩
    rw [y3, y4]
    refine sp_write (cb := cb) x1 x2 (by omega) (Nat.le_refl _) (Nat.le_refl _) fun h8 h10 fr8 tp10 fl lo row oth => ?_
    have ncb : zt h5 cb ≠ 0 := by rw [y1]; decide
    have ntp : zt h5 tp ≠ 0 := by rw [x3]; decide
    have nac : zt h5 ac ≠ 0 := by rw [x1]; decide
    have R10 := rc_tp tp10 (rc_base (rc_fr R5 fr8))
    have cI : ∀ f, zi h10 f cb = zi h5 f cb := fun f => (fl cb ncb f).1.trans ((fr8 cb ncb).2.2.1 f).1
    have cR : ∀ f, zr h10 f cb = zr h5 f cb := fun f => (fl cb ncb f).2.trans ((fr8 cb ncb).2.2.1 f).2
    have c10 : zt h10 cb = 1 := (tp10.1 cb).trans ((fr8 cb ncb).1.trans y1)
    have m10 : zt h10 cb ∈ [1] := by rw [c10]; decide
    refine ⟨m10, m10, fun h11 e11 => ?_⟩
    rw [cI, y4, nI_1] at e11
    have R11 : rcAll G (zF0 cb ac tp) h11 A' E' h11 σ' cb b := by
      rw [e11]; exact rc_tp (zTp.i (by omega)) R10
    have q1 := hQ1 (by rw [e1]; exact nn) h11 ⟨b, A', E', ⟨⟨by rw [e11]; exact c10, by rw [e11, zr_pi, cR]; exact y2, by rw [e11, zr_pi, cR]; exact y3, by rw [e11, zi_pi, if_pos ⟨rfl, rfl⟩], by rw [e11, zr_pi, cR]; exact y5, by rw [e11, zi_pi, if_neg (by omega), cI]; exact y6, by rw [e11, zi_pi, if_neg (by omega), cI]; exact y7⟩, ⟨by rw [e11, zt_pi, tp10.1, (fr8 ac nac).1]; exact x1, by rw [e11, zl_pi, tp10.2.1, (fr8 ac nac).2.1]; exact x2, by rw [e11, zt_pi, tp10.1, (fr8 tp ntp).1]; exact x3, by rw [e11, zl_pi, tp10.2.1, (fr8 tp ntp).2.1]; exact x4, x5⟩, fun i hi => ?_, fun i hi => ?_⟩, by rw [sRun_row.1, e2]; exact R11, fun i hi => ?_⟩
    · rw [e1] at q1; exact q1
    · rw [e11, zj_pi]
      by_cases him : i < 6 * m
      · rw [zRow6_lo him, lo i him]; exact s1 i him
      · obtain ⟨r1, r2, r3, r4, r5, r6⟩ := row
        unfold zRow6
        rw [if_neg him]
        have : i = 6 * m ∨ i = 6 * m + 1 ∨ i = 6 * m + 2 ∨ i = 6 * m + 3 ∨ i = 6 * m + 4 ∨ i = 6 * m + 5 := by omega
        rcases this with q | q | q | q | q | q <;> subst q
        · rw [if_pos rfl]; exact r1
        · rw [if_neg (by omega), if_pos rfl]; exact r2
        · rw [if_neg (by omega), if_neg (by omega), if_pos rfl]; exact r3
        · rw [if_neg (by omega), if_neg (by omega), if_neg (by omega), if_pos rfl]; exact r4
        · rw [if_neg (by omega), if_neg (by omega), if_neg (by omega), if_neg (by omega), if_pos rfl]; exact r5
        · rw [if_neg (by omega), if_neg (by omega), if_neg (by omega), if_neg (by omega), if_neg (by omega)]; exact r6
    · rw [e11, zj_pi, oth tp i ntp (fun q => x5 q.symm), ((fr8 tp ntp).2.2.2 0 i).1]; exact s2 i hi
    · by_cases him : i = m
      · rw [him, sRun_row.2, e1]; exact nn
      · rw [sAns_congr (L := L) i fun j hj => zRow6_lo (by omega)]; exact g i (by omega)
  · rw [t4] at z
    exact absurd ((nI_eq (b := 400) (by omega) (by omega)).mp z) (by omega)
end ZDS
