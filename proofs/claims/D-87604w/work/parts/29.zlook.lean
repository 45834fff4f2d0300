/-! METHODS of the component on the picture of a book: who lies where, room, why not. -/
set_option maxRecDepth 100000
section ZLK
variable {G : Nat × Nat × Nat} {F : Nat → Prop} {h0 h h' : ZH} {A A' : ZA} {E E' : Nat → Nat} {σ σ' : ZS} {cb b : Nat} {C : Nat → List Nat}
def sIn (σ : ZS) (g : Nat) (c d : Int32) : Option Nat := (sl σ 1 g).find? (fun p => decide (sa σ 711 p = c ∧ sa σ 712 p = d))
abbrev sRests (σ : ZS) (p : Nat) (today : Int32) : Prop := ¬ sa σ 710 p = -1 ∧ ¬ sa σ 709 p ≤ today
/-- nobody rests there -/
def sOpenB (σ : ZS) (g : Nat) (c d today : Int32) : Bool := match sIn σ g c d with
  | none => true
  | some p => decide (¬ sRests σ p today)
abbrev sOpen (σ : ZS) (g : Nat) (c d today : Int32) : Prop := sOpenB σ g c d today = true
def sColumns (σ : ZS) (g : Nat) : Int32 := if sa σ 10 g = 3 then sa σ 604 g else if sa σ 10 g = 4 then 4 else 1
abbrev sTakesK (σ : ZS) (g : Nat) (v : Int32) : Prop := if sa σ 10 g = 4 ∨ sa σ 10 g = 5 then v = 1 else if sa σ 10 g = 1 ∨ sa σ 10 g = 2 ∨ sa σ 10 g = 3 then ¬ v = 1 else v = 2
def sRoom (σ : ZS) (g : Nat) (c today : Int32) : Int32 :=
  if sa σ 10 g = 5 then (if 40 ≤ nI (sl σ 1 g).length then -1 else 0)
  else if sa σ 10 g = 4 then (if sIn σ g c 0 = none then 0 else -1)
  else if sOpen σ g c 0 today then (if (sa σ 10 g = 2 ∨ sa σ 10 g = 3) ∧ sOpen σ g c 1 today then 1 else 0) else -1
def sYears (σ : ZS) (g : Nat) (v : Int32) : Int32 := if v = 0 then 20 + 4 * sa σ 605 g else if v = 2 then 12 + 2 * sa σ 605 g else 10
def sLacks (σ : ZS) (g : Nat) (e : Int32) : Int32 := if sa σ 608 g < e then (((e - sa σ 608 g) + 365) - 1) / 365 else 0
abbrev sAgreed (σ : ZS) (g p : Nat) : Prop := (¬ sa σ 613 g = -1 ∧ ¬ sa σ 20 (150 * g + p) = 0) ∨ sa σ 614 g = nI p ∨ sa σ 607 g = nI p ∨ sa σ 704 (sa σ 607 g).toNatClampNeg = nI p ∨ sParent σ (sa σ 607 g).toNatClampNeg p ∨ sParent σ p (sa σ 607 g).toNatClampNeg
theorem sp_rests (R : rcAll G F h0 A E h σ cb b) {Q : Int32 → Prop} {p : Nat} {today : Int32} (hp : p < sn σ 2) (h710 : sOk (sn σ 1) (sa σ 710 p)) (hQ1 : sRests σ p today → Q 1) (hQ0 : ¬ sRests σ p today → Q 0) : fc_X16_rests G (A 0 p) Q h today := by
  obtain ⟨p1, p2, p3, p4, p5⟩ := R.2.2.2.1 p hp
  have m14 : zt h (A 0 p) ∈ [14] := by rw [p1]; decide
  have e710 : zr h 710 (A 0 p) = none ↔ sa σ 710 p = -1 := by rw [p4]; exact rfx_no (by have := rc_sz1 R; omega) h710
  have e709 : zi h 709 (A 0 p) = sa σ 709 p := p2 709 (by simp [rcPi])
  refine ⟨m14, fun w => hQ0 fun q => q.1 (e710.mp w), fun b1 w => ⟨m14, fun w2 => hQ0 fun q => q.2 (e709 ▸ w2), fun w2 => hQ1 ⟨fun z => ?_, e709 ▸ w2⟩⟩⟩
  rw [e710.mpr z] at w; cases w
theorem sp_lget (R : rcAll G F h0 A E h σ cb b) {Q : Option Nat → Prop} {g i p : Nat} (hg : g < sn σ 1) (hi : (sl σ 1 g)[i]? = some p) (hQ : Q (some (A 0 p))) : fc_J2_get G (A 5 (5 + 3 * g)) Q h (nI i) := by
  have hlt := (List.getElem?_eq_some_iff.mp hi).1
  refine zl_get (rc_lyi R hg) (by simpa using hlt) ?_
  rw [List.getElem?_map, hi]; exact hQ
theorem rc_lyn (R : rcAll G F h0 A E h σ cb b) {g : Nat} (hg : g < sn σ 1) : (sl σ 1 g).length ≤ 64 := by
  have L := rc_lyi R hg
  have := L.2.2.2.2.1; have := L.2.2.2.2.2.1
  simp at *; omega
theorem sp_in9 (R : rcAll G F h0 A E h σ cb b) {Q : Option Nat → Prop} {g : Nat} {c d : Int32} (hg : g < sn σ 1) (hly : ∀ p ∈ sl σ 1 g, p < sn σ 2) (hQ : Q ((sIn σ g c d).map (A 0))) : fc_X9_in G (A 1 g) Q h c d := by
  have hm := rc_gt R hg
  have L := rc_lyi R hg
  have h615 := (R.2.2.2.2.1 g hg).2.2.2.2.1
  have hlen := rc_lyn R hg
  have loop : ∀ (n i : Nat), i ≤ (sl σ 1 g).length → (sl σ 1 g).length + 1 ≤ i + n → sIn σ g c d = ((sl σ 1 g).drop i).find? (fun p => decide (sa σ 711 p = c ∧ sa σ 712 p = d)) → fc_X9_in_2 G (A 1 g) Q n h c d (nI i) := by
    intro n
    induction n with
    | zero => intro i h1 h2; omega
    | succ n ih =>
      intro i h1 h2 he
      refine ⟨hm, _, h615, L.1, zl_size L ⟨fun w => ?_, fun w => ⟨hm, L.1, ?_⟩⟩⟩
      · rw [List.length_map] at w
        have hi : i = (sl σ 1 g).length := by have := (nI_leI (by omega) (by omega)).mp w; omega
        rw [he, hi, List.drop_length] at hQ
        exact hQ
      · rw [List.length_map] at w
        have hi : i < (sl σ 1 g).length := Classical.byContradiction fun q => w (nI_le (by omega) (by omega))
        have hgi : (sl σ 1 g)[i]? = some (sl σ 1 g)[i] := by simp [hi]
        have hp : (sl σ 1 g)[i] < sn σ 2 := hly _ (List.getElem_mem hi)
        have dr : (sl σ 1 g).drop i = (sl σ 1 g)[i] :: (sl σ 1 g).drop (i + 1) := List.drop_eq_getElem_cons hi
        rw [dr] at he
        generalize (sl σ 1 g)[i] = p at *
        obtain ⟨p1, p2, p3, p4, p5⟩ := R.2.2.2.1 p hp
        have m14 : zt h (A 0 p) ∈ [14] := by rw [p1]; decide
        have e711 : zi h 711 (A 0 p) = sa σ 711 p := p2 711 (by simp [rcPi])
        have e712 : zi h 712 (A 0 p) = sa σ 712 p := p2 712 (by simp [rcPi])
        have next : ¬ (sa σ 711 p = c ∧ sa σ 712 p = d) → fc_X9_in_47 G (A 1 g) Q (fun h9 y0 y1 y2 => fc_X9_in_2 G (A 1 g) Q n h9 y0 y1 y2) h c d (nI i) := by
          intro hn x1 e1
          rw [nI_1] at e1
          subst e1
          refine ih (i + 1) (by omega) (by omega) (he.trans ?_)
          rw [List.find?_cons, decide_eq_false hn]
        refine sp_lget R hg hgi ⟨fun b9 e9 => by cases e9; exact m14, _, rfl, m14, fun w1 => next fun q => w1 (e711.trans q.1), fun w1 => ⟨m14, fun w2 => next fun q => w2 (e712.trans q.2), fun w2 => ?_⟩⟩
        rw [e711] at w1
        rw [e712] at w2
        rw [List.find?_cons, decide_eq_true (⟨w1, w2⟩ : sa σ 711 p = c ∧ sa σ 712 p = d)] at he
        rw [he] at hQ
        exact hQ
  exact ⟨(sl σ 1 g).length + 1, loop _ 0 (by omega) (by omega) rfl⟩
theorem sp_in (R : rcAll G F h0 A E h σ cb b) {Q : Option Nat → Prop} {g : Nat} {c d : Int32} (hg : g < sn σ 1) (hly : ∀ p ∈ sl σ 1 g, p < sn σ 2) (hQ : Q ((sIn σ g c d).map (A 0))) : fv_in_9 G (A 1 g) Q h c d :=
  ⟨rc_gt R hg, fun _ => sp_in9 R hg hly hQ⟩
theorem sIn_mem {g p : Nat} {c d : Int32} (h : sIn σ g c d = some p) : p ∈ sl σ 1 g ∧ sa σ 711 p = c ∧ sa σ 712 p = d := by
  unfold sIn at h
  have h1 := List.mem_of_find?_eq_some h
  have h2 := List.find?_some h
  exact ⟨h1, of_decide_eq_true h2⟩
theorem sp_open9 (R : rcAll G F h0 A E h σ cb b) (W : sRef σ) {Q : Int32 → Prop} {g : Nat} {c d today : Int32} (hg : g < sn σ 1) (hQ1 : sOpen σ g c d today → Q 1) (hQ0 : ¬ sOpen σ g c d today → Q 0) : fc_X9_isOpen G (A 1 g) Q h c d today := by
  have hly := (W.2.1 g hg).2
  refine sp_in R hg hly ?_
  unfold sOpen sOpenB at hQ1 hQ0
  cases hs : sIn σ g c d with
  | none =>
    rw [hs] at hQ1
    exact ⟨fun _ => hQ1 rfl, fun b2 e2 => (nomatch e2)⟩
  | some p =>
    rw [hs] at hQ1 hQ0
    have hp := hly p (sIn_mem hs).1
    refine ⟨fun w => (nomatch w), fun b2 e2 => ?_⟩
    have e2 : A 0 p = b2 := Option.some.inj e2
    subst e2
    exact ⟨(R.2.2.2.1 p hp).1, sp_rests R hp (W.1.1 p hp).2 (fun q => ⟨fun _ => hQ0 fun z => of_decide_eq_true z q, fun z => absurd z (by decide)⟩) (fun q => ⟨fun z => absurd rfl z, fun _ => hQ1 (decide_eq_true q)⟩)⟩
theorem sp_columns (R : rcAll G F h0 A E h σ cb b) {Q : Int32 → Prop} {g : Nat} (hg : g < sn σ 1) (hQ : Q (sColumns σ g)) : fv_columns_8 G (A 1 g) Q h := by
  have hm := rc_gt R hg
  obtain ⟨g1, g2, -⟩ := R.2.2.2.2.1 g hg
  have hw : zi h 604 (A 1 g) = sa σ 604 g := g2 604 (by simp [rcGi])
  unfold sColumns at hQ
  unfold rcKind at g1
  refine ⟨hm, fun w => ?_, fun w => ⟨w, ?_⟩, fun w => ?_, fun w => ?_⟩
  all_goals
    rw [g1] at w
    repeat' split at w
    all_goals first | exact absurd w (by decide) | skip
  all_goals simp_all
  all_goals exact hQ
theorem sp_takes18 (R : rcAll G F h0 A E h σ cb b) {Q : Int32 → Prop} {g : Nat} {v : Int32} (hg : g < sn σ 1) (hQ1 : sTakesK σ g v → Q 1) (hQ0 : ¬ sTakesK σ g v → Q 0) : fv_takes_18 G (A 1 g) Q h v := by
  have hm := rc_gt R hg
  obtain ⟨g1, g2, -⟩ := R.2.2.2.2.1 g hg
  unfold sTakesK at hQ1 hQ0
  have tagA : zt h (A 1 g) ∈ [8, 9, 10] → sa σ 10 g = 1 ∨ sa σ 10 g = 2 ∨ sa σ 10 g = 3 := by
    intro w
    rw [g1] at w
    unfold rcKind at w
    repeat' split at w
    all_goals first | exact absurd w (by decide) | simp_all
  have tagB : zt h (A 1 g) ∈ [11, 12] → sa σ 10 g = 4 ∨ sa σ 10 g = 5 := by
    intro w
    rw [g1] at w
    unfold rcKind at w
    repeat' split at w
    all_goals first | exact absurd w (by decide) | simp_all
  have tagC : zt h (A 1 g) ∈ [13] → ¬ (sa σ 10 g = 4 ∨ sa σ 10 g = 5) ∧ ¬ (sa σ 10 g = 1 ∨ sa σ 10 g = 2 ∨ sa σ 10 g = 3) := by
    intro w
    rw [g1] at w
    unfold rcKind at w
    repeat' split at w
    all_goals first | exact absurd w (by decide) | simp_all
  refine ⟨hm, fun w => ?_, fun w => ?_, fun w => ?_⟩
  · have t := tagA w
    have n : ¬ (sa σ 10 g = 4 ∨ sa σ 10 g = 5) := by
      rcases t with q | q | q <;> rw [q] <;> decide
    rw [if_neg n, if_pos t] at hQ1 hQ0
    exact ⟨fun q => hQ0 fun z => z q, fun q => hQ1 q⟩
  · have t := tagB w
    rw [if_pos t] at hQ1 hQ0
    exact ⟨fun q => hQ0 q, fun q => hQ1 q⟩
  · obtain ⟨n1, n2⟩ := tagC w
    rw [if_neg n1, if_neg n2] at hQ1 hQ0
    exact ⟨fun q => hQ0 q, fun q => hQ1 q⟩
theorem sp_kind (R : rcAll G F h0 A E h σ cb b) {Q : Int32 → Prop} {g : Nat} (hg : g < sn σ 1) (hk : ¬ sa σ 10 g < 1 ∧ ¬ 6 < sa σ 10 g) (hQ : Q (sa σ 10 g)) : fv_kind_21 G (A 1 g) Q h := by
  have hm := rc_gt R hg
  obtain ⟨g1, g2, -⟩ := R.2.2.2.2.1 g hg
  have k6 : zt h (A 1 g) ∈ [13] → sa σ 10 g = 6 := by
    intro w
    have h0 : ¬ sa σ 10 g < 0 := fun q => hk.1 (Int32.lt_trans q (by decide))
    obtain ⟨j, hj, e⟩ := nI_of h0
    rw [g1] at w
    unfold rcKind at w
    rw [e] at hk w ⊢
    have j1 : 1 ≤ j := Classical.byContradiction fun q => hk.1 (nI_lt (b := 1) (by omega) (by omega))
    have j6 : j ≤ 6 := Classical.byContradiction fun q => hk.2 (nI_lt (a := 6) (by omega) (by omega))
    have : j = 1 ∨ j = 2 ∨ j = 3 ∨ j = 4 ∨ j = 5 ∨ j = 6 := by omega
    rcases this with q | q | q | q | q | q <;> subst q
    all_goals first | rfl | exact absurd w (by decide)
  refine ⟨hm, fun w => ?_, fun w => ?_, fun w => ?_, fun w => ?_, fun w => ?_, fun w => show Q 6 from by have e := k6 w; rw [e] at hQ; exact hQ⟩
  all_goals
    rw [g1] at w
    unfold rcKind at w
    repeat' split at w
    all_goals first | exact absurd w (by decide) | (rename_i q; rw [q] at hQ; exact hQ)
theorem sp_ground (R : rcAll G F h0 A E h σ cb b) {Q : Int32 → Prop} {g : Nat} (hg : g < sn σ 1) (hQ : Q (sa σ 605 g)) : fv_ground_6 G (A 1 g) Q h := by
  have hm := rc_gt R hg
  refine ⟨hm, fun _ => ⟨hm, ?_⟩⟩
  rw [(R.2.2.2.2.1 g hg).2.1 605 (by simp [rcGi])]; exact hQ
theorem sp_years (R : rcAll G F h0 A E h σ cb b) {Q : Int32 → Prop} {g : Nat} {v : Int32} (hg : g < sn σ 1) (hQ : Q (sYears σ g v)) : fv_years_7 G (A 1 g) Q h v := by
  unfold sYears at hQ
  refine ⟨rc_gt R hg, fun _ => ⟨fun w => ⟨fun w2 => ?_, fun w2 => sp_ground R hg ?_⟩, fun w => sp_ground R hg ?_⟩⟩
  · rw [if_neg w, if_neg w2] at hQ; exact hQ
  · rw [if_neg w, if_pos w2] at hQ; exact hQ
  · rw [if_pos w] at hQ; exact hQ
theorem sp_to (R : rcAll G F h0 A E h σ cb b) {Q : Int32 → Prop} {g : Nat} (hg : g < sn σ 1) (hQ : Q (sa σ 608 g)) : fv_to_13 G (A 1 g) Q h := by
  have hm := rc_gt R hg
  refine ⟨hm, fun _ => ⟨hm, ?_⟩⟩
  rw [(R.2.2.2.2.1 g hg).2.1 608 (by simp [rcGi])]; exact hQ
theorem sp_lacks (R : rcAll G F h0 A E h σ cb b) {Q : Int32 → Prop} {g : Nat} {v : Int32} (hg : g < sn σ 1) (hQ : Q (sLacks σ g v)) : fv_lacks_14 G (A 1 g) Q h v := by
  unfold sLacks at hQ
  refine ⟨rc_gt R hg, fun _ => sp_to R hg ⟨fun w => sp_to R hg ?_, fun w => ?_⟩⟩
  · rw [if_pos w] at hQ; exact hQ
  · rw [if_neg w] at hQ; exact hQ
theorem sp_room (R : rcAll G F h0 A E h σ cb b) (W : sRef σ) {Q : Int32 → Prop} {g : Nat} {c today : Int32} (hg : g < sn σ 1) (hQ : Q (sRoom σ g c today)) : fv_room_15 G (A 1 g) Q h c today := by
  have hm := rc_gt R hg
  have hly := (W.2.1 g hg).2
  obtain ⟨g1, g2, -, -, g5, -⟩ := R.2.2.2.2.1 g hg
  unfold sRoom at hQ
  have tag : (zt h (A 1 g) ∈ [8, 13] → ¬ sa σ 10 g = 5 ∧ ¬ sa σ 10 g = 4 ∧ ¬ (sa σ 10 g = 2 ∨ sa σ 10 g = 3)) ∧ (zt h (A 1 g) ∈ [9, 10] → ¬ sa σ 10 g = 5 ∧ ¬ sa σ 10 g = 4 ∧ (sa σ 10 g = 2 ∨ sa σ 10 g = 3)) ∧ (zt h (A 1 g) ∈ [11] → sa σ 10 g = 4) ∧ (zt h (A 1 g) ∈ [12] → sa σ 10 g = 5) := by
    rw [g1]
    unfold rcKind
    refine ⟨fun w => ?_, fun w => ?_, fun w => ?_, fun w => ?_⟩
    all_goals
      repeat' split at w
      all_goals first | exact absurd w (by decide) | simp_all
  obtain ⟨tA, tB, tC, tD⟩ := tag
  refine ⟨hm, fun w => ?_, fun w => ?_, fun w => ?_, fun w => ?_⟩
  · obtain ⟨n5, n4, n23⟩ := tA w
    rw [if_neg n5, if_neg n4] at hQ
    refine ⟨hm, fun _ => sp_open9 R W hg (fun q => ⟨fun z => absurd z (by decide), fun _ => ?_⟩) (fun q => ⟨fun _ => ?_, fun z => absurd rfl z⟩)⟩
    · rw [if_pos q, if_neg (fun z => n23 z.1)] at hQ; exact hQ
    · rw [if_neg q] at hQ; exact hQ
  · obtain ⟨n5, n4, n23⟩ := tB w
    rw [if_neg n5, if_neg n4] at hQ
    refine ⟨w, hm, fun _ => sp_open9 R W hg (fun q => ⟨fun z => absurd z (by decide), fun _ => ⟨fun z => absurd rfl z, fun _ => ⟨w, fun _ => sp_open9 R W hg (fun q2 => ⟨fun z => absurd z (by decide), fun _ => ?_⟩) (fun q2 => ⟨fun _ => ?_, fun z => absurd rfl z⟩)⟩⟩⟩) (fun q => ⟨fun _ => ⟨fun _ => ?_, fun z => absurd z (by decide)⟩, fun z => absurd rfl z⟩)⟩
    · rw [if_pos q, if_pos ⟨n23, q2⟩] at hQ; exact hQ
    · rw [if_pos q, if_neg (fun z => q2 z.2)] at hQ; exact hQ
    · rw [if_neg q] at hQ; exact hQ
  · have k4 := tC w
    rw [if_neg (by rw [k4]; decide), if_pos k4] at hQ
    refine ⟨by rw [List.mem_singleton.mp w]; decide, fun _ => sp_in9 R hg hly ?_⟩
    cases hs : sIn σ g c 0 with
    | none =>
      rw [hs, if_pos rfl] at hQ
      exact ⟨fun _ => hQ, fun b2 e2 => (nomatch e2)⟩
    | some p =>
      rw [hs, if_neg (fun z => nomatch z)] at hQ
      exact ⟨fun z => (nomatch z), fun b2 e2 => hQ⟩
  · have k5 := tD w
    rw [if_pos k5] at hQ
    have L := rc_lyi R hg
    refine ⟨w, _, g5, L.1, zl_size L ⟨fun z => ?_, fun z => ?_⟩⟩
    · rw [List.length_map] at z
      rw [if_pos z] at hQ; exact hQ
    · rw [List.length_map] at z
      rw [if_neg z] at hQ; exact hQ
theorem sp_isColumn (R : rcAll G F h0 A E h σ cb b) {Q : Int32 → Prop} {g : Nat} {c : Int32} (hg : g < sn σ 1) (hQ1 : ¬ c < 0 ∧ ¬ sColumns σ g ≤ c → Q 1) (hQ0 : ¬ (¬ c < 0 ∧ ¬ sColumns σ g ≤ c) → Q 0) : fv_isColumn_17 G (A 1 g) Q h c :=
  ⟨rc_gt R hg, fun _ => ⟨fun w => hQ0 fun q => q.1 w, fun w => sp_columns R hg ⟨fun w2 => hQ0 fun q => q.2 w2, fun w2 => hQ1 ⟨w, w2⟩⟩⟩⟩
theorem sp_agreed (R : rcAll G F h0 A E h σ cb b) (W : sRef σ) {Q : Int32 → Prop} {g p : Nat} (hg : g < sn σ 1) (hp : p < sn σ 2) (h700 : sa σ 700 p = nI p) (h607 : ¬ sa σ 607 g = -1) (hQ1 : sAgreed σ g p → Q 1) (hQ0 : ¬ sAgreed σ g p → Q 0) : fv_isAgreed_16 G (A 1 g) Q h (some (A 0 p)) := by
  have hm := rc_gt R hg
  have h40 := W.2.2.2.2.1 2
  have h31 : sn σ 2 < 2 ^ 31 := by omega
  obtain ⟨g1, g2, g3, g4, g5, g6⟩ := R.2.2.2.2.1 g hg
  obtain ⟨p1, p2, p3, p4, p5⟩ := R.2.2.2.1 p hp
  have inj := fun i j hi hj => rc_inj0 R (p := i) (q := j) hi hj
  have m14 : zt h (A 0 p) ∈ [14] := by rw [p1]; decide
  have e700 : zi h 700 (A 0 p) = nI p := (p2 700 (by simp [rcPi])).trans h700
  have e614 : some (A 0 p) = zr h 614 (A 1 g) ↔ sa σ 614 g = nI p := by
    rw [g3 614 (by simp [rcGr])]
    exact eq_comm.trans (rfx_is h31 (W.1.2 g hg 614 (by simp [rcGr])) hp inj)
  have e607 : some (A 0 p) = zr h 607 (A 1 g) ↔ sa σ 607 g = nI p := by
    rw [g3 607 (by simp [rcGr])]
    exact eq_comm.trans (rfx_is h31 (W.1.2 g hg 607 (by simp [rcGr])) hp inj)
  obtain ⟨q, hq, eq⟩ : ∃ q, q < sn σ 2 ∧ sa σ 607 g = nI q := (W.1.2 g hg 607 (by simp [rcGr])).resolve_left h607
  have r607 : zr h 607 (A 1 g) = some (A 0 q) := by rw [g3 607 (by simp [rcGr]), eq, rfx_some _ (by omega)]
  have qc : (sa σ 607 g).toNatClampNeg = q := by rw [eq]; exact nI_clamp (by omega)
  obtain ⟨q1, q2, q3, q4, q5⟩ := R.2.2.2.1 q hq
  have mq : zt h (A 0 q) ∈ [14] := by rw [q1]; decide
  have e704 : zr h 704 (A 0 q) = some (A 0 p) ↔ sa σ 704 q = nI p := by
    rw [q3 704 (by simp [rcPr])]
    exact rfx_is h31 ((W.1.1 q hq).1 704 (by simp [rcPr])) hp inj
  unfold sAgreed at hQ1 hQ0
  rw [qc] at hQ1 hQ0
  have yes : sAgreed σ g p → fc_X9_isAgreed_46 G (A 1 g) Q h (some (A 0 p)) := fun w => by
    unfold sAgreed at w
    rw [qc] at w
    exact ⟨fun _ => hQ1 w, fun z => absurd z (by decide)⟩
  unfold sAgreed at yes
  rw [qc] at yes
  have rest : ¬ (¬ sa σ 613 g = -1 ∧ ¬ sa σ 20 (150 * g + p) = 0) → fc_X9_isAgreed_19 G (A 1 g) Q h (some (A 0 p)) := by
    intro n1
    refine ⟨hm, fun w => yes (Or.inr (Or.inl (e614.mp w))), fun w2 => ⟨hm, fun w => yes (Or.inr (Or.inr (Or.inl (e607.mp w)))), fun w3 => ⟨hm, A 0 q, r607, mq, fun w4 => ⟨fun z => absurd rfl z, fun _ => ⟨hm, A 0 q, r607, q1, sp_parent R W.1 hq hp (fun w5 => ⟨fun _ => hQ1 (Or.inr (Or.inr (Or.inr (Or.inr (Or.inl w5))))), fun z => absurd z (by decide)⟩) (fun w5 => ⟨fun z => absurd rfl z, fun _ => ⟨hm, A 0 p, rfl, p1, ?_⟩⟩)⟩⟩, fun w4 => yes (Or.inr (Or.inr (Or.inr (Or.inl (e704.mp w4)))))⟩⟩⟩
    rw [r607]
    refine sp_parent R W.1 hp hq (fun w6 => ⟨fun z => absurd z (by decide), fun _ => hQ1 (Or.inr (Or.inr (Or.inr (Or.inr (Or.inr w6)))))⟩) (fun w6 => ⟨fun _ => hQ0 ?_, fun z => absurd rfl z⟩)
    rintro (z | z | z | z | z | z)
    · exact n1 z
    · exact w2 (e614.mpr z)
    · exact w3 (e607.mpr z)
    · exact w4 (e704.mpr z)
    · exact w5 z
    · exact w6 z
  refine ⟨hm, fun _ => ⟨hm, fun w => rest fun z => ?_, fun b1 w => ⟨hm, _, rfl, m14, ?_⟩⟩⟩
  · rcases g6 with y | y
    · exact z.1 y.2
    · rw [y.1] at w; cases w
  · rcases g6 with y | y
    · rw [y.1] at w; cases w
    · obtain ⟨y1, y2, y3, y4, y5⟩ := y
      rw [y1] at w
      have w : A 4 g = b1 := Option.some.inj w
      subst w
      have n613 : ¬ sa σ 613 g = -1 := by rw [y2]; exact fun z => nI_pos (by have := rc_sz1 R; omega : g < 2 ^ 31) (z ▸ (by decide : (-1 : Int32) < 0))
      rw [e700, y4, nI_clamp (by omega), y5 p (by omega)]
      exact ⟨y3, nI_in (by omega) (by omega), fun z => yes (Or.inl ⟨n613, z⟩), fun z => rest fun t => t.2 z⟩
/-- why not, in a grave there is -/
def sWhyG (σ : ZS) (g : Nat) (c : Int32) (q : Option Nat) (k e mv : Int32) : Int32 :=
  if sa σ 606 g = 4 then 1 else if ¬ (¬ c < 0 ∧ ¬ sColumns σ g ≤ c) then 1 else
  match q with
  | none => 1
  | some p =>
    if k < 0 then 1 else if ¬ k ≤ 2 then 1 else if ¬ sTakesK σ g k then 2
    else if mv = 0 ∧ (sa σ 702 p = 0 ∨ ¬ sa σ 708 p = -1) then 3
    else if ¬ sa σ 10 g = 5 ∧ ¬ sa σ 606 g = 1 then 4
    else if ¬ 0 ≤ sRoom σ g c (sa σ 203 0) then 5
    else if ¬ sa σ 10 g = 5 ∧ ¬ sAgreed σ g p then 6
    else if ¬ sa σ 10 g = 5 ∧ ¬ sLacks σ g e ≤ 20 then 7 else 0
theorem sp_why2 (R : rcAll G F h0 A E h σ cb b) (W : sRef σ) {Q : Int32 → Prop} {g : Nat} {c k e mv : Int32} {q : Option Nat} (hg : g < sn σ 1) (hq : ∀ p, q = some p → p < sn σ 2 ∧ sa σ 700 p = nI p) (hH : sa σ 606 g = 1 → ¬ sa σ 607 g = -1) (hQ : Q (sWhyG σ g c q k e mv)) : fc_X5_why_2 G b Q h (some (A 1 g)) c (q.map (A 0)) k e mv := by
  have hm := rc_gt R hg
  have hb4 : zt h b ∈ [4] := by rw [R.1.1]; decide
  obtain ⟨g1, g2, g3, g4, g5, g6⟩ := R.2.2.2.2.1 g hg
  have e606 : zi h 606 (A 1 g) = sa σ 606 g := g2 606 (by simp [rcGi])
  have e203 : zi h 203 b = sa σ 203 0 := R.1.2.1
  unfold sWhyG at hQ
  refine ⟨fun w => (nomatch w), fun b1 w => ?_⟩
  have w : A 1 g = b1 := Option.some.inj w
  subst w
  refine ⟨hm, fun w => ?_, fun w => sp_isColumn R hg (fun wc => ⟨fun z => absurd z (by decide), fun _ => ?_⟩) (fun wc => ⟨fun _ => ?_, fun z => absurd rfl z⟩)⟩
  · rw [e606] at w
    rw [if_pos w] at hQ; exact hQ
  · rw [e606] at w
    rw [if_neg w, if_neg (fun z => z wc)] at hQ
    cases q with
    | none => exact ⟨fun _ => hQ, fun b3 e3 => (nomatch e3)⟩
    | some p =>
      obtain ⟨hp, h700⟩ := hq p rfl
      obtain ⟨p1, p2, p3, p4, p5⟩ := R.2.2.2.1 p hp
      have m14 : zt h (A 0 p) ∈ [14] := by rw [p1]; decide
      have e702 : zi h 702 (A 0 p) = sa σ 702 p := p2 702 (by simp [rcPi])
      have e708 : zi h 708 (A 0 p) = sa σ 708 p := p2 708 (by simp [rcPi])
      refine ⟨fun z => (nomatch z), fun b3 e3 => ?_⟩
      have e3 : A 0 p = b3 := Option.some.inj e3
      subst e3
      simp only [] at hQ
      refine ⟨fun z => ?_, fun z1 => ⟨fun z2 => sp_takes18 R hg (fun wt => ⟨fun _ => ?_, fun z => absurd z (by decide)⟩) (fun wt => ⟨fun z => absurd rfl z, fun _ => ?_⟩), fun z => ?_⟩⟩
      · rw [if_pos z] at hQ; exact hQ
      · rw [if_neg z1, if_neg (fun y => y z2), if_neg (fun y => y wt)] at hQ
        -- behind the checks of the person
        have late : Q (if ¬ sa σ 10 g = 5 ∧ ¬ sa σ 606 g = 1 then 4
            else if ¬ 0 ≤ sRoom σ g c (sa σ 203 0) then 5
            else if ¬ sa σ 10 g = 5 ∧ ¬ sAgreed σ g p then 6
            else if ¬ sa σ 10 g = 5 ∧ ¬ sLacks σ g e ≤ 20 then 7 else 0) → fc_X5_why_2_70 G b Q h (some (A 1 g)) c (some (A 0 p)) e := by
          intro hQ
          refine ⟨_, rfl, sp_needs R hg ?_⟩
          by_cases k5 : sa σ 10 g = 5
          · rw [if_pos k5]
            rw [if_neg (fun y => y.1 k5)] at hQ
            refine ⟨fun _ => ⟨hb4, _, rfl, ?_⟩, fun y => absurd rfl y⟩
            rw [e203]
            refine sp_room R W hg ⟨fun y => ⟨fun _ => ⟨fun _ => ?_, fun y => absurd rfl y⟩, fun y => absurd rfl y⟩, fun y => ?_⟩
            · rw [if_neg (fun t => t y), if_neg (fun t => t.1 k5), if_neg (fun t => t.1 k5)] at hQ; exact hQ
            · rw [if_pos y] at hQ; exact hQ
          · rw [if_neg k5]
            refine ⟨fun y => absurd y (by decide), fun _ => ⟨hm, fun y1 => ?_, fun y1 => ?_⟩⟩
            · rw [e606] at y1
              rw [if_neg (fun y => y.2 y1)] at hQ
              refine ⟨hb4, _, rfl, ?_⟩
              rw [e203]
              refine sp_room R W hg ⟨fun y => ⟨fun z => absurd z (by decide), fun _ => sp_agreed R W hg hp h700 (hH y1) (fun ya => ⟨fun _ => ⟨fun z => absurd z (by decide), fun _ => ⟨_, rfl, sp_lacks R hg ⟨fun yl => ?_, fun yl => ?_⟩⟩⟩, fun z => absurd z (by decide)⟩) (fun ya => ⟨fun z => absurd rfl z, fun _ => ?_⟩)⟩, fun y => ?_⟩
              · rw [if_neg (fun t => t y), if_neg (fun t => t.2 ya), if_neg (fun t => t.2 yl)] at hQ; exact hQ
              · rw [if_neg (fun t => t y), if_neg (fun t => t.2 ya), if_pos ⟨k5, yl⟩] at hQ; exact hQ
              · rw [if_neg (fun t => t y), if_pos ⟨k5, ya⟩] at hQ; exact hQ
              · rw [if_pos y] at hQ; exact hQ
            · rw [e606] at y1
              rw [if_pos ⟨k5, y1⟩] at hQ; exact hQ
        refine ⟨fun y => ?_, fun y => ⟨m14, fun y2 => ?_, fun y2 => ⟨m14, fun y3 => ?_, fun y3 => ?_⟩⟩⟩
        · rw [if_neg (fun t => y t.1)] at hQ
          exact late hQ
        · rw [e702] at y2
          rw [if_pos ⟨y, Or.inl y2⟩] at hQ; exact hQ
        · rw [e702] at y2
          rw [e708] at y3
          rw [if_neg (fun t => t.2.elim y2 (fun u => u y3))] at hQ
          exact late hQ
        · rw [e708] at y3
          rw [if_pos ⟨y, Or.inr y3⟩] at hQ; exact hQ
      · rw [if_neg z1, if_neg (fun y => y z2), if_pos wt] at hQ; exact hQ
      · rw [if_neg z1, if_pos z] at hQ; exact hQ
  · rw [e606] at w
    rw [if_neg w, if_pos wc] at hQ; exact hQ
/-- where the burial would end -/
def sEnd (σ : ZS) (g : Nat) (k : Int32) : Int32 := sa σ 203 0 + 365 * sYears σ g k
theorem sp_endOf (R : rcAll G F h0 A E h σ cb b) {Q : Int32 → Prop} {g : Nat} {k : Int32} (hg : g < sn σ 1) (hQ : Q (sEnd σ g k)) : fc_X5_endOf G b Q h (some (A 1 g)) k := by
  refine ⟨by rw [R.1.1]; decide, _, rfl, sp_years R hg ?_⟩
  rw [R.1.2.1]; exact hQ
/-- a number of somebody there is -/
def sPn (σ : ZS) (v : Int32) : Option Nat := if ∃ j, j < sn σ 2 ∧ v = nI j then some v.toNatClampNeg else none
/-- the look 'why' -/
def sWhy (σ : ZS) (x c p k : Int32) : Int32 := if ∃ g, g < sn σ 1 ∧ x = nI g then sWhyG σ x.toNatClampNeg c (sPn σ p) k (sEnd σ x.toNatClampNeg k) 0 else 1
theorem sp_why (R : rcAll G F h0 A E h σ cb b) (W : sRef σ) (h700 : ∀ p, p < sn σ 2 → sa σ 700 p = nI p) (hH : ∀ g, g < sn σ 1 → sa σ 606 g = 1 → ¬ sa σ 607 g = -1) {Q : Int32 → Prop} {x c p k : Int32} (hQ : Q (sWhy σ x c p k)) : fc_X5_why G b Q h x c p k := by
  have h40 := W.2.2.2.2.1 2
  have h41 := W.2.2.2.2.1 1
  unfold sWhy at hQ
  have pn1 : ∀ j, j < sn σ 2 → p = nI j → sPn σ p = some j := fun j hj e => by unfold sPn; rw [if_pos ⟨j, hj, e⟩, e, nI_clamp (by omega)]
  have pn0 : (¬ ∃ j, j < sn σ 2 ∧ p = nI j) → sPn σ p = none := fun hn => by unfold sPn; rw [if_neg hn]
  refine ⟨R.1.1, sp_grave R (fun g hg ex => ?_) (fun hno => ?_)⟩
  · have xc : x.toNatClampNeg = g := by rw [ex]; exact nI_clamp (by omega)
    rw [if_pos ⟨g, hg, ex⟩, xc] at hQ
    refine ⟨R.1.1, sp_person R (fun j hj ej => ⟨fun z => (nomatch z), fun b3 e3 => ⟨R.1.1, sp_endOf R hg ⟨R.1.1, ?_⟩⟩⟩) (fun hno => ⟨fun z => (nomatch z), fun b3 e3 => ⟨R.1.1, sp_endOf R hg ⟨R.1.1, ?_⟩⟩⟩)⟩
    · rw [pn1 j hj ej] at hQ
      exact sp_why2 R W (q := some j) hg (fun p e => by cases e; exact ⟨hj, h700 j hj⟩) (hH g hg) hQ
    · rw [pn0 hno] at hQ
      exact sp_why2 R W (q := none) hg (fun p e => nomatch e) (hH g hg) hQ
  · rw [if_neg hno] at hQ
    refine ⟨R.1.1, sp_person R (fun j hj ej => ⟨fun _ => ⟨R.1.1, fun _ => hQ, fun b1 e1 => (nomatch e1)⟩, fun b3 e3 => (nomatch e3)⟩) (fun _ => ⟨fun _ => ⟨R.1.1, fun _ => hQ, fun b1 e1 => (nomatch e1)⟩, fun b3 e3 => (nomatch e3)⟩)⟩
end ZLK
