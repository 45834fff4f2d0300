/-! THE COMPONENT's looks 'plan' and 'free'. -/
set_option maxRecDepth 100000
section ZPN
variable {G : Nat × Nat × Nat} {F F' : Nat → Prop} {h0 h h' : ZH} {A A' : ZA} {E E' : Nat → Nat} {σ σ' : ZS} {cb b ac tp n m t k : Nat} {L P : Nat → Int32}
def sMax (x y : Int32) : Int32 := if x < y then y else x
def sTimes (x last rest : Int32) : Int32 := if x ≤ last then 1 + (last - x) / rest else 0
def sOpens (σ : ZS) (g : Nat) (c d today : Int32) : Int32 := match sIn σ g c d with
  | none => today
  | some p => sMax today (sa σ 709 p)
/-- some above while the one below rests, then two by two -/
def sColF (below last rest : Int32) : Nat → Int32 → Int32 → Int32 → Int32
  | 0, _, _, best => best
  | f + 1, i, day, best => if ¬ below ≤ day ∧ ¬ last < day then sColF below last rest f (i + 1) (day + rest) (sMax best (i + 2 * sTimes (sMax (day + rest) below) last rest)) else best
def sColumn (σ : ZS) (g : Nat) (c today last rest : Int32) : Int32 :=
  sColF (sOpens σ g c 1 today) last rest 400000 1 (sOpens σ g c 0 today) (2 * sTimes (sMax (sOpens σ g c 0 today) (sOpens σ g c 1 today)) last rest)
def sPlanC (σ : ZS) (g : Nat) (today last rest : Int32) : Nat → Int32
  | 0 => 0
  | c + 1 => sPlanC σ g today last rest c + sColumn σ g (nI c) today last rest
def sPlanG (σ : ZS) (g : Nat) (today last rest : Int32) : Int32 :=
  if sa σ 10 g = 5 then 40 - nI (sl σ 1 g).length else if sa σ 10 g = 4 then 4 - nI (sl σ 1 g).length
  else if sa σ 10 g = 2 ∨ sa σ 10 g = 3 then sPlanC σ g today last rest (sColumns σ g).toNatClampNeg else sTimes (sOpens σ g 0 0 today) last rest
def sPlan (σ : ZS) (x k y : Int32) : Int32 :=
  if (∃ g, g < sn σ 1 ∧ x = nI g) ∧ ¬ sa σ 606 x.toNatClampNeg = 4 ∧ ¬ k < 0 ∧ ¬ 2 < k ∧ ¬ y < 0 ∧ y ≤ 100 then
    if sTakesK σ x.toNatClampNeg k ∧ ¬ sa σ 606 x.toNatClampNeg = 3 ∧ ¬ sa σ 606 x.toNatClampNeg = 2 then sPlanG σ x.toNatClampNeg (sa σ 203 0) (sa σ 203 0 + 365 * y) (365 * sYears σ x.toNatClampNeg k) else 0
  else -1
theorem sp_max {Q : Int32 → Prop} {x y : Int32} (hQ : Q (sMax x y)) : fc_J6_max G Q h x y := by
  unfold sMax at hQ
  exact ⟨fun w => by rw [if_pos w] at hQ; exact hQ, fun w => by rw [if_neg w] at hQ; exact hQ⟩
theorem sp_times {Q : Int32 → Prop} {x l r : Int32} (hr : ¬ r = 0) (hQ : Q (sTimes x l r)) : fc_X10_times G Q h x l r := by
  unfold sTimes at hQ
  exact ⟨fun w => ⟨hr, by rw [if_pos w] at hQ; exact hQ⟩, fun w => by rw [if_neg w] at hQ; exact hQ⟩
theorem sp_opens (R : rcAll G F h0 A E h σ cb b) (W : sRef σ) {Q : Int32 → Prop} {g : Nat} {c d today : Int32} (hg : g < sn σ 1) (hQ : Q (sOpens σ g c d today)) : fc_X10_opens G (A 1 g) Q h c d today := by
  have hly := (W.2.1 g hg).2
  have hm := rc_gt R hg
  refine ⟨hm, fun _ => sp_in9 R hg hly ?_⟩
  unfold sOpens at hQ
  cases hs : sIn σ g c d with
  | none =>
    rw [hs] at hQ
    exact ⟨fun _ => hQ, fun b2 z => (nomatch z)⟩
  | some p =>
    rw [hs] at hQ
    have hp := hly p (sIn_mem hs).1
    obtain ⟨p1, p2, -⟩ := R.2.2.2.1 p hp
    refine ⟨fun z => (nomatch z), fun b2 z => ?_⟩
    have z : A 0 p = b2 := Option.some.inj z
    subst z
    refine ⟨by rw [p1]; decide, sp_max ?_⟩
    rw [p2 709 (by simp [rcPi])]; exact hQ
theorem sp_column (R : rcAll G F h0 A E h σ cb b) (W : sRef σ) {Q : Int32 → Prop} {g B0 r : Nat} {c today last rest : Int32} (hg : g < sn σ 1) (k23 : sa σ 10 g = 2 ∨ sa σ 10 g = 3) (hB : sOpens σ g c 1 today = nI B0 ∧ B0 < 400000) (hD : ∃ D, sOpens σ g c 0 today = nI D ∧ D < 400000) (hr : rest = nI r ∧ 0 < r ∧ r < 400000) (hQ : Q (sColumn σ g c today last rest)) : fc_X11_column G (A 1 g) Q h c today last rest := by
  have m910 : zt h (A 1 g) ∈ [9, 10] := by
    rw [(R.2.2.2.2.1 g hg).1]
    rcases k23 with q | q <;> rw [q] <;> decide
  have r0 : ¬ rest = 0 := by rw [hr.1]; exact nI_ne0 hr.2.1 (by omega)
  unfold sColumn at hQ
  refine ⟨m910, fun _ => sp_opens R W hg ⟨m910, fun _ => sp_opens R W hg (sp_max (sp_times r0 fun x5 e5 => ?_))⟩⟩
  subst e5
  obtain ⟨D, hD, hD4⟩ := hD
  rw [hB.1, hD] at hQ ⊢
  have loop : ∀ (f : Nat) (D : Nat) (i best : Int32), D < 1000000 → B0 + 1 ≤ D + f → 1 ≤ f → Q (sColF (nI B0) last rest f i (nI D) best) → fc_X11_column_42 G (A 1 g) Q (f + 1) h last rest (nI B0) best i (nI D) := by
    intro f
    induction f with
    | zero => intro D i best h1 h2 h3; omega
    | succ f ih =>
      intro D i best h1 h2 h3 hq
      have es : sColF (nI B0) last rest (f + 1) i (nI D) best = if ¬ nI B0 ≤ nI D ∧ ¬ last < nI D then sColF (nI B0) last rest f (i + 1) (nI D + rest) (sMax best (i + 2 * sTimes (sMax (nI D + rest) (nI B0)) last rest)) else best := rfl
      rw [es] at hq
      refine ⟨fun w => ?_, fun w => ⟨fun w2 => ?_, fun w2 x1 e1 => ?_⟩⟩
      · rw [if_neg (fun z => z.1 w)] at hq; exact hq
      · rw [if_neg (fun z => z.2 w2)] at hq; exact hq
      · rw [if_pos ⟨w, w2⟩] at hq
        have hDB : D < B0 := Classical.byContradiction fun q => w (nI_le (by omega) (by omega))
        subst e1
        refine sp_max (sp_times r0 (sp_max fun x5 e5 => ?_))
        subst e5
        have ed : nI D + rest = nI (D + r) := by rw [hr.1, nI_add]
        rw [ed] at hq ⊢
        by_cases f0 : f = 0
        · have hBD : B0 ≤ D + r := by omega
          subst f0
          exact ⟨fun _ => hq, fun z => absurd (nI_le hBD (by omega)) z⟩
        · exact ih (D + r) _ _ (by omega) (by omega) (by omega) hq
  exact ⟨400001, loop 400000 D 1 _ (by omega) (by omega) (by omega) hQ⟩
theorem sOpens_n (I : sInv n σ) {g : Nat} {c d : Int32} {t : Nat} (hg : g < sn σ 1) (ht : t ≤ 200000) : ∃ x, sOpens σ g c d (nI t) = nI x ∧ x ≤ 300000 := by
  unfold sOpens
  cases hs : sIn σ g c d with
  | none => exact ⟨t, rfl, by omega⟩
  | some p =>
    have hp := (I.ref.2.1 g hg).2 p (sIn_mem hs).1
    obtain ⟨e, e1, e2⟩ := (I.2.2.1 p hp).2.2.2.2.2.1
    simp only []
    unfold sMax
    rw [e1]
    split
    · exact ⟨e, rfl, e2⟩
    · exact ⟨t, rfl, by omega⟩
theorem sColumns_n (I : sInv n σ) {g : Nat} (hg : g < sn σ 1) : ∃ c, sColumns σ g = nI c ∧ 1 ≤ c ∧ c ≤ 4 := by
  obtain ⟨-, -, hw, ⟨f, r, k, m, h1, h2, h3, h4, -⟩, -⟩ := (I.2.2.2.1 g hg).1
  obtain ⟨m', m1, m4, em⟩ := sWide_n hw
  unfold sColumns
  split
  · exact ⟨m', em, m1, m4⟩
  · split
    · exact ⟨4, rfl, by omega, by omega⟩
    · exact ⟨1, rfl, by omega, by omega⟩
theorem sp_plan31 (R : rcAll G F h0 A E h σ cb b) (I : sInv n σ) {Q : Int32 → Prop} {g t r : Nat} {last rest : Int32} (hg : g < sn σ 1) (ht : t ≤ 200000) (hr : rest = nI r ∧ 0 < r ∧ r < 400000) (hQ : Q (sPlanG σ g (nI t) last rest)) : fv_plan_31 G (A 1 g) Q h (nI t) last rest := by
  have W := I.ref
  have hm := rc_gt R hg
  obtain ⟨g1, g2, g3, g4, g5, g6⟩ := R.2.2.2.2.1 g hg
  have L := rc_lyi R hg
  have r0 : ¬ rest = 0 := by rw [hr.1]; exact nI_ne0 hr.2.1 (by omega)
  unfold sPlanG at hQ
  have tag : (zt h (A 1 g) ∈ [8, 13] → ¬ sa σ 10 g = 5 ∧ ¬ sa σ 10 g = 4 ∧ ¬ (sa σ 10 g = 2 ∨ sa σ 10 g = 3)) ∧ (zt h (A 1 g) ∈ [9, 10] → ¬ sa σ 10 g = 5 ∧ ¬ sa σ 10 g = 4 ∧ (sa σ 10 g = 2 ∨ sa σ 10 g = 3)) ∧ (zt h (A 1 g) ∈ [11] → sa σ 10 g = 4) ∧ (zt h (A 1 g) ∈ [12] → sa σ 10 g = 5) := by
    rw [g1]
    unfold rcKind
    refine ⟨fun w => ?_, fun w => ?_, fun w => ?_, fun w => ?_⟩
    all_goals
      repeat' split at w
      all_goals first | exact absurd w (by decide) | simp_all
  obtain ⟨tA, tB, tC, tD⟩ := tag
  refine ⟨hm, fun w => ?_, fun w => ?_, fun w => ?_, fun w => ?_⟩
  · obtain ⟨n5, n4, n23⟩ := tA w
    rw [if_neg n5, if_neg n4, if_neg n23] at hQ
    exact ⟨hm, fun _ => sp_opens R W hg (sp_times r0 hQ)⟩
  · obtain ⟨n5, n4, n23⟩ := tB w
    rw [if_neg n5, if_neg n4, if_pos n23] at hQ
    obtain ⟨cn, hcn, hc1, hc4⟩ := sColumns_n I hg
    have col : ∀ {Q' : Int32 → Prop}, Q' (nI cn) → fv_columns_28 G (A 1 g) Q' h := by
      intro Q' q
      have e := hcn
      unfold sColumns at e
      rw [if_neg n4] at e
      refine ⟨w, fun y => ?_, fun y => ⟨y, ?_⟩⟩
      · have : ¬ sa σ 10 g = 3 := fun z => by rw [g1, z] at y; exact absurd y (by decide)
        rw [if_neg this] at e
        show Q' 1
        rw [e]; exact q
      · have : sa σ 10 g = 3 := rcKind_10.mp (by rw [← g1]; simpa using y)
        rw [if_pos this] at e
        rw [g2 604 (by simp [rcGi]), e]; exact q
    rw [hcn, nI_clamp (by omega)] at hQ
    have loop : ∀ (f i : Nat), i ≤ cn → cn + 1 ≤ i + f → fc_X11_plan_6 G (A 1 g) Q f h (nI t) last rest (sPlanC σ g (nI t) last rest i) (nI i) := by
      intro f
      induction f with
      | zero => intro i h1 h2; omega
      | succ f ih =>
        intro i h1 h2
        refine col ⟨fun y => ?_, fun y => ⟨w, fun _ => ?_⟩⟩
        · have ei : i = cn := by have := (nI_leI (by omega) (by omega)).mp y; omega
          rw [ei]; exact hQ
        · have hi : i < cn := Classical.byContradiction fun q => y (nI_le (by omega) (by omega))
          obtain ⟨xB, hB1, hB2⟩ := sOpens_n I (c := nI i) (d := 1) hg ht
          obtain ⟨xD, hD1, hD2⟩ := sOpens_n I (c := nI i) (d := 0) hg ht
          refine sp_column R W hg n23 ⟨hB1, by omega⟩ ⟨xD, hD1, by omega⟩ hr fun x3 e3 x4 e4 => ?_
          rw [nI_1] at e4
          subst e4
          rw [e3]
          exact ih (i + 1) (by omega) (by omega)
    exact ⟨cn + 1, loop _ 0 (by omega) (by omega)⟩
  · have k4 := tC w
    rw [if_neg (by rw [k4]; decide), if_pos k4] at hQ
    have m11 : zt h (A 1 g) ∈ [11, 12] := by rw [List.mem_singleton.mp w]; decide
    have go : ∃ b2 : Nat, (zr h 615 (A 1 g)) = some b2 ∧ (zt h b2 = 5 ∧ (fc_J2_size G b2 (fun z3 => Q (4 - z3)) h)) := ⟨_, g5, L.1, zl_size L (by rw [List.length_map]; exact hQ)⟩
    exact ⟨m11, fun _ => ⟨m11, go⟩, fun y => by rw [List.mem_singleton.mp w] at y; exact absurd y (by decide)⟩
  · have k5 := tD w
    rw [if_pos k5] at hQ
    exact ⟨w, _, g5, L.1, zl_size L (by rw [List.length_map]; exact hQ)⟩
theorem sx_plan (S : zInvStep) (X : rcX G cb ac tp m t k L P h) (hm : m ≤ 24) {Q : Int32 → Prop} {x kd y : Int32} (hQ : Q (sPlan (sRun L m) x kd y)) : fc_X1_plan G cb Q h x kd y := by
  obtain ⟨b, A, E, c1, c2, c3, c4, c5, c6, R, I⟩ := X.opn S hm
  have hle := I.le
  have W := I.ref
  generalize sRun L m = σ at *
  unfold sPlan at hQ
  have bad : ¬ ((∃ g, g < sn σ 1 ∧ x = nI g) ∧ ¬ sa σ 606 x.toNatClampNeg = 4 ∧ ¬ kd < 0 ∧ ¬ 2 < kd ∧ ¬ y < 0 ∧ y ≤ 100) → Q (-1) := fun hn => by rw [if_neg hn] at hQ; exact hQ
  refine ⟨c1, b, c3, c4, sp_grave R (fun g hg ex => ⟨fun z => (nomatch z), fun b3 e3 => ?_⟩) (fun hno => ⟨fun _ => bad fun q => hno q.1, fun b3 z => (nomatch z)⟩)⟩
  have e3 : A 1 g = b3 := Option.some.inj e3
  subst e3
  have xc : x.toNatClampNeg = g := by rw [ex]; exact nI_clamp (by omega)
  rw [xc] at bad hQ
  have hm' := rc_gt R hg
  have e606 : zi h 606 (A 1 g) = sa σ 606 g := (R.2.2.2.2.1 g hg).2.1 606 (by simp [rcGi])
  obtain ⟨t0, ht, ht2⟩ := I.2.1
  refine ⟨hm', fun w => bad fun q => q.2.1 (e606 ▸ w), fun w => ⟨fun z => bad fun q => q.2.2.1 z, fun z1 => ⟨fun z => bad fun q => q.2.2.2.1 z, fun z2 => ⟨fun z => bad fun q => q.2.2.2.2.1 z, fun z3 => ⟨fun z4 => ?_, fun z => bad fun q => z q.2.2.2.2.2⟩⟩⟩⟩⟩
  rw [e606] at w
  rw [if_pos ⟨⟨g, hg, ex⟩, w, z1, z2, z3, z4⟩] at hQ
  have nul : ¬ (sTakesK σ g kd ∧ ¬ sa σ 606 g = 3 ∧ ¬ sa σ 606 g = 2) → Q 0 := fun hn => by rw [if_neg hn] at hQ; exact hQ
  refine sp_takes18 R hg (fun wt => ⟨fun z => absurd z (by decide), fun _ => ⟨hm', fun u => nul fun q => q.2.1 (e606 ▸ u), fun u => ⟨hm', fun u2 => ⟨c1, c5, c1, c5, sp_years R hg ?_⟩, fun u2 => nul fun q => q.2.2 (e606 ▸ u2)⟩⟩⟩) (fun wt => ⟨fun _ => nul fun q => wt q.1, fun z => absurd rfl z⟩)
  rw [e606] at u u2
  rw [if_pos ⟨wt, u, u2⟩] at hQ
  rw [R.1.2.1]
  obtain ⟨yy, y1, y2, y3⟩ := sYears_n (v := kd) (I.g605 hg)
  rw [ht] at hQ ⊢
  refine sp_plan31 R I hg ht2 (r := 365 * yy) ⟨?_, by omega, by omega⟩ hQ
  rw [y3]
  show nI 365 * nI yy = _
  rw [pk_mul]
end ZPN
