/-! THE COMPONENT's looks. -/
set_option maxRecDepth 100000
section ZLO
variable {G : Nat × Nat × Nat} {F F' : Nat → Prop} {h0 h h' : ZH} {A A' : ZA} {E E' : Nat → Nat} {σ σ' : ZS} {cb b ac tp n m t k : Nat} {L P : Nat → Int32}
theorem rcX.opn (S : zInvStep) (X : rcX G cb ac tp m t k L P h) (hm : m ≤ 24) : ∃ b A E, zt h cb ∈ [1] ∧ zt h cb = 1 ∧ zr h 102 cb = some b ∧ zt h b = 4 ∧ zt h b ∈ [4] ∧ (zi h 104 cb = nI m ∧ zi h 106 cb = nI t ∧ zi h 107 cb = nI k) ∧ rcAll G (zF0 cb ac tp) h A E h (sRun L m) cb b ∧ sInv m (sRun L m) := by
  obtain ⟨b, A, E, T, R, g⟩ := X
  exact ⟨b, A, E, by rw [T.1.1]; decide, T.1.1, T.1.2.1, R.1.1, by rw [R.1.1]; decide, ⟨T.1.2.2.2.1, T.1.2.2.2.2.2.1, T.1.2.2.2.2.2.2⟩, R, sRun_inv S m hm g⟩
/-- a reference's number -/
theorem sp_number (R : rcAll G F h0 A E h σ cb b) (I : sInv n σ) {Q : Int32 → Prop} {x : Int32} (hx : sOk (sn σ 2) x) (hQ : Q x) : fc_X1_numberOf G Q h (rfx (A 0) x) := by
  have hle := I.le
  rcases rfx_ok (ad := A 0) (by omega) hx with ⟨e, e2⟩ | ⟨j, hj, e, e2⟩
  · rw [e2]
    exact ⟨fun _ => e ▸ hQ, fun b1 z => (nomatch z)⟩
  · rw [e2]
    refine ⟨fun z => (nomatch z), fun b1 z => ?_⟩
    have z : A 0 j = b1 := Option.some.inj z
    subst z
    obtain ⟨p1, p2, -⟩ := R.2.2.2.1 j hj
    refine ⟨by rw [p1]; decide, ?_⟩
    rw [p2 700 (by simp [rcPi]), I.p700 j hj, ← e]; exact hQ
def sNumO (q : Option Nat) : Int32 := match q with
  | none => -1
  | some p => nI p
theorem sp_numP (R : rcAll G F h0 A E h σ cb b) (I : sInv n σ) {Q : Int32 → Prop} {q : Option Nat} (hq : ∀ p, q = some p → p < sn σ 2) (hQ : Q (sNumO q)) : fc_X1_numberOf G Q h (q.map (A 0)) := by
  have hle := I.le
  cases q with
  | none => exact ⟨fun _ => hQ, fun b1 z => (nomatch z)⟩
  | some p =>
    have hp := hq p rfl
    have e : (some p).map (A 0) = rfx (A 0) (nI p) := (rfx_some _ (by omega)).symm
    rw [e]
    exact sp_number R I (Or.inr ⟨p, hp, rfl⟩) hQ
/-- 'why' -/
theorem sx_why (S : zInvStep) (X : rcX G cb ac tp m t k L P h) (hm : m ≤ 24) {Q : Int32 → Prop} {v1 v2 v3 v4 : Int32} (hQ : Q (sWhy (sRun L m) v1 v2 v3 v4)) : fc_X1_why G cb Q h v1 v2 v3 v4 := by
  obtain ⟨b, A, E, c1, c2, c3, c4, c5, c6, R, I⟩ := X.opn S hm
  exact ⟨c1, b, c3, c4, sp_why R I.ref I.p700 I.held hQ⟩
/-- 'spot' -/
def sSpotAt (σ : ZS) (f r p : Int32) : Int32 := if sRowF σ f r = 0 then (if ¬ p < 0 ∧ p < sa σ 6 (12 * f.toNatClampNeg + r.toNatClampNeg) then sPut σ (12 * f.toNatClampNeg + r.toNatClampNeg) p.toNatClampNeg else -4) else sRowF σ f r
theorem sx_spot (S : zInvStep) (X : rcX G cb ac tp m t k L P h) (hm : m ≤ 24) (ht : t ≤ 24) {Q : Int32 → ZH → Prop} {bc bs : Nat} {v1 v2 v3 : Int32} (hc : 8 ≤ bc) (hs : 2100 ≤ bs) (hQ : ∀ h', rcX G cb ac tp m t k L P h' → Q (sSpotAt (sRun L m) v1 v2 v3) h') : fc_X1_spot G cb Q h bc bs v1 v2 v3 := by
  have X0 := X
  obtain ⟨b, A, E, T, R, g⟩ := X
  have I := sRun_inv S m hm g
  have hle := I.le
  have thr : ∀ (h' : ZH), zFr h h' → rcX G cb ac tp m t k L P h' := fun h' fr => ⟨b, A, E, T.sm (by omega) (by omega) fun a ha => fr.m a (T.nz a ha), rc_base (rc_fr R fr), g⟩
  unfold sSpotAt at hQ
  refine ⟨by rw [T.1.1]; decide, by rw [T.1.1]; decide, b, T.1.2.1, R.1.1, 2, 1007, by omega, by omega, sp_row R (Nat.le_refl _) (Nat.le_refl _) (fun v e hv q h' z6 z400 fr => ⟨rfl, q, rfl, by rw [z6]; decide, ?_⟩) fun i j hi hj ef er hr hrow hz => ⟨R.1.1, 4, 1017, by omega, by omega, ?_⟩⟩
  · rw [z400]
    have q0 := hQ h' (thr h' fr)
    rw [if_neg (by rw [e]; exact fun y => by rw [y] at hv; exact absurd hv (by decide)), e] at q0
    exact q0
  · have ic : v1.toNatClampNeg = i := by rw [ef]; exact nI_clamp (by omega)
    have jc : v2.toNatClampNeg = j := by rw [er]; exact nI_clamp (by omega)
    rw [if_pos hz, ic, jc] at hQ
    refine sp_at R hr (Nat.le_refl _) (Nat.le_refl _) (fun hn q h' z6 z400 fr => ⟨rfl, q, rfl, by rw [z6]; decide, ?_⟩) fun x hx ex => ?_
    · rw [z400]
      have q0 := hQ h' (thr h' fr)
      rw [if_neg hn] at q0
      exact q0
    · obtain ⟨l1, l2, l3⟩ := rc_len R hr
      have q0 := hQ h X0
      have xc : (nI x).toNatClampNeg = x := nI_clamp (by omega)
      rw [ex, xc, if_pos ⟨nI_pos (by omega), by rw [l3]; exact nI_lt hx (by omega)⟩] at q0
      have hsp : sSpot (sn (sRun L m) 1) (sPut (sRun L m) (12 * i + j) x) := I.ref.2.2.2.1 _ hr x hx
      rcases rcSpot_tag R hsp with ⟨y, z2⟩ | ⟨y, u, z2, z3⟩ | ⟨y, u, z2, z3⟩ | ⟨u, hu, y, -, z2, z3⟩
      · rw [z2]
        rw [y] at q0
        exact ⟨fun _ => q0, fun b12 z => (nomatch z)⟩
      · rw [z2]
        rw [y] at q0
        refine ⟨fun z => (nomatch z), fun b12 z => ?_⟩
        cases z
        exact ⟨by rw [z3]; decide, fun _ => q0, fun w => by rw [z3] at w; exact absurd w (by decide), fun w => by rw [z3] at w; exact absurd w (by decide)⟩
      · rw [z2]
        rw [y] at q0
        refine ⟨fun z => (nomatch z), fun b12 z => ?_⟩
        cases z
        exact ⟨by rw [z3]; decide, fun w => by rw [z3] at w; exact absurd w (by decide), fun _ => q0, fun w => by rw [z3] at w; exact absurd w (by decide)⟩
      · rw [z2]
        rw [y] at q0
        refine ⟨fun z => (nomatch z), fun b12 z => ?_⟩
        cases z
        have kp := rcKind_pos (sa (sRun L m) 10 u)
        have hm' := rc_gt R hu
        have e600 : zi h 600 (A 1 u) = nI u := ((R.2.2.2.2.1 u hu).2.1 600 (by simp [rcGi])).trans (I.2.2.2.1 u hu).1.1
        refine ⟨?_, fun w => ?_, fun w => ?_, fun _ => ⟨hm', ?_⟩⟩
        · rw [z3]; simp only [List.mem_cons, List.not_mem_nil, or_false]; omega
        · rw [z3] at w; have := List.mem_singleton.mp w; omega
        · rw [z3] at w; have := List.mem_singleton.mp w; omega
        · rw [e600]
          show Q (nI 10 + nI u) h
          rw [nI_add]; exact q0
/-- the greatest end -/
def sMx (σ : ZS) (l : List Nat) : Int32 := l.foldl (fun e p => if e < sa σ 709 p then sa σ 709 p else e) 0
theorem sp_greatest (R : rcAll G F h0 A E h σ cb b) (W : sRef σ) {Q : Int32 → Prop} {g : Nat} (hg : g < sn σ 1) (hQ : Q (sMx σ (sl σ 1 g))) : fv_greatestEnd_33 G (A 1 g) Q h := by
  have hm := rc_gt R hg
  have L := rc_lyi R hg
  have h615 := (R.2.2.2.2.1 g hg).2.2.2.2.1
  have hlen := rc_lyn R hg
  have hly := (W.2.1 g hg).2
  have loop : ∀ (n i : Nat) (acc : Int32), i ≤ (sl σ 1 g).length → (sl σ 1 g).length + 1 ≤ i + n → sMx σ (sl σ 1 g) = ((sl σ 1 g).drop i).foldl (fun e p => if e < sa σ 709 p then sa σ 709 p else e) acc → fc_X9_greatestEnd_4 G (A 1 g) Q n h acc (nI i) := by
    intro n
    induction n with
    | zero => intro i acc h1 h2; omega
    | succ n ih =>
      intro i acc h1 h2 he
      refine ⟨hm, _, h615, L.1, zl_size L ⟨fun w => ?_, fun w => ⟨hm, L.1, ?_⟩⟩⟩
      · rw [List.length_map] at w
        have hi : i = (sl σ 1 g).length := by have := (nI_leI (by omega) (by omega)).mp w; omega
        rw [hi, List.drop_length] at he
        rw [he] at hQ
        exact hQ
      · rw [List.length_map] at w
        have hi : i < (sl σ 1 g).length := Classical.byContradiction fun q => w (nI_le (by omega) (by omega))
        have hgi : (sl σ 1 g)[i]? = some (sl σ 1 g)[i] := by simp [hi]
        have hp : (sl σ 1 g)[i] < sn σ 2 := hly _ (List.getElem_mem hi)
        have dr : (sl σ 1 g).drop i = (sl σ 1 g)[i] :: (sl σ 1 g).drop (i + 1) := List.drop_eq_getElem_cons hi
        rw [dr, List.foldl_cons] at he
        generalize (sl σ 1 g)[i] = p at *
        obtain ⟨p1, p2, -⟩ := R.2.2.2.1 p hp
        have m14 : zt h (A 0 p) ∈ [14] := by rw [p1]; decide
        have e709 : zi h 709 (A 0 p) = sa σ 709 p := p2 709 (by simp [rcPi])
        refine sp_lget R hg hgi ⟨fun b9 e9 => by cases e9; exact m14, _, rfl, m14, ?_⟩
        rw [e709]
        refine ⟨fun z x6 e6 => ?_, fun z x6 e6 => ?_⟩
        · rw [nI_1] at e6
          subst e6
          rw [if_pos z] at he
          exact ih (i + 1) _ (by omega) (by omega) he
        · rw [nI_1] at e6
          subst e6
          rw [if_neg z] at he
          exact ih (i + 1) _ (by omega) (by omega) he
  exact ⟨hm, fun _ => ⟨(sl σ 1 g).length + 1, loop _ 0 0 (by omega) (by omega) rfl⟩⟩
/-- 'look' at a grave there is -/
def sLookG (σ : ZS) (g : Nat) (w : Int32) : Int32 :=
  if w = 0 then sa σ 10 g else if w = 1 then sa σ 606 g else if w = 2 then sa σ 607 g else if w = 3 then (if sa σ 606 g = 1 ∨ sa σ 606 g = 2 then sa σ 608 g else 0)
  else if w = 4 then sa σ 609 g else if w = 5 then (if sa σ 606 g = 2 then sa σ 610 g else 0) else if w = 6 then sa σ 601 g else if w = 7 then sa σ 602 g else if w = 8 then sa σ 603 g
  else if w = 9 then nI (sl σ 1 g).length else sMx σ (sl σ 1 g)
abbrev sLookOk (σ : ZS) (x w : Int32) : Prop := (∃ g, g < sn σ 1 ∧ x = nI g) ∧ ¬ w < 0 ∧ w ≤ 10
theorem sx_look (S : zInvStep) (X : rcX G cb ac tp m t k L P h) (hm : m ≤ 24) {Q : Int32 → Prop} {XE : String → Nat → ZH → Prop} {bc bs : Nat} {x w : Int32} (hc : 1 ≤ bc) (hs : 6 ≤ bs)
    (hQ : sLookOk (sRun L m) x w → Q (sLookG (sRun L m) x.toNatClampNeg w)) (hX : ¬ sLookOk (sRun L m) x w → ∀ q, XE "java/util/NoSuchElementException" q h) : fc_X1_look G cb Q XE h bc bs x w := by
  obtain ⟨b, A, E, c1, c2, c3, c4, c5, c6, R, I⟩ := X.opn S hm
  have hle := I.le
  have W := I.ref
  generalize sRun L m = σ at *
  have bad : ¬ sLookOk σ x w → fc_X1_look_23 G cb Q XE h bc bs := fun hn => ⟨hc, hs, hX hn⟩
  refine ⟨c1, b, c3, c4, sp_grave R (fun g hg ex => ⟨fun z => (nomatch z), fun b3 e3 => ?_⟩) (fun hno => ⟨fun _ => bad fun q => hno q.1, fun b3 z => (nomatch z)⟩)⟩
  have e3 : A 1 g = b3 := Option.some.inj e3
  subst e3
  have xc : x.toNatClampNeg = g := by rw [ex]; exact nI_clamp (by omega)
  refine ⟨fun z => bad fun q => q.2.1 z, fun z1 => ⟨fun z2 => ?_, fun z2 => bad fun q => z2 q.2.2⟩⟩
  have hQ := hQ ⟨⟨g, hg, ex⟩, z1, z2⟩
  rw [xc] at hQ
  have hm' := rc_gt R hg
  obtain ⟨g1, g2, g3, g4, g5, g6⟩ := R.2.2.2.2.1 g hg
  have fi : ∀ f ∈ rcGi, zi h f (A 1 g) = sa σ f g := g2
  have lk : ∀ {j : Int32}, w = j → w.toInt = j.toInt := fun e => by rw [e]
  refine ⟨fun y => sp_greatest R W hg ?_, fun y => sp_kind R hg (I.kinds g hg) ?_, fun y => ⟨hm', ?_⟩, fun y => ⟨hm', ?_⟩, fun y => ⟨hm', fun u => ⟨_, rfl, hm', ?_⟩, fun u => ⟨hm', fun u2 => ?_, fun u2 => ⟨_, rfl, hm', ?_⟩⟩⟩, fun y => ⟨hm', ?_⟩, fun y => ⟨hm', fun u => ?_, fun u => ⟨hm', ?_⟩⟩, fun y => ⟨hm', ?_⟩, fun y => ⟨hm', ?_⟩, fun y => ⟨hm', ?_⟩, fun y => ⟨hm', _, g5, (rc_lyi R hg).1, zl_size (rc_lyi R hg) ?_⟩⟩
  · have ne : ∀ j : Int32, j.toInt ≤ 9 → 0 ≤ j.toInt → ¬ w = j := fun j h1 h2 e => by rw [e] at y; omega
    unfold sLookG at hQ
    rw [if_neg (ne 0 (by decide) (by decide)), if_neg (ne 1 (by decide) (by decide)), if_neg (ne 2 (by decide) (by decide)), if_neg (ne 3 (by decide) (by decide)), if_neg (ne 4 (by decide) (by decide)), if_neg (ne 5 (by decide) (by decide)), if_neg (ne 6 (by decide) (by decide)), if_neg (ne 7 (by decide) (by decide)), if_neg (ne 8 (by decide) (by decide)), if_neg (ne 9 (by decide) (by decide))] at hQ
    exact hQ
  · have e : w = 0 := toInt_lit y
    subst e; exact hQ
  · have e : w = 1 := toInt_lit y
    subst e; rw [fi 606 (by simp [rcGi])]; exact hQ
  · have e : w = 2 := toInt_lit y
    subst e; rw [g3 607 (by simp [rcGr])]; exact sp_number R I (W.1.2 g hg 607 (by simp [rcGr])) hQ
  · have e : w = 3 := toInt_lit y
    subst e
    rw [fi 606 (by simp [rcGi])] at u
    have hQ : Q (if sa σ 606 g = 1 ∨ sa σ 606 g = 2 then sa σ 608 g else 0) := hQ
    rw [if_pos (Or.inl u)] at hQ
    rw [fi 608 (by simp [rcGi])]; exact hQ
  · have e : w = 3 := toInt_lit y
    subst e
    rw [fi 606 (by simp [rcGi])] at u u2
    have hQ : Q (if sa σ 606 g = 1 ∨ sa σ 606 g = 2 then sa σ 608 g else 0) := hQ
    rw [if_neg (fun z => z.elim u u2)] at hQ
    exact hQ
  · have e : w = 3 := toInt_lit y
    subst e
    rw [fi 606 (by simp [rcGi])] at u2
    have hQ : Q (if sa σ 606 g = 1 ∨ sa σ 606 g = 2 then sa σ 608 g else 0) := hQ
    rw [if_pos (Or.inr u2)] at hQ
    rw [fi 608 (by simp [rcGi])]; exact hQ
  · have e : w = 4 := toInt_lit y
    subst e; rw [g3 609 (by simp [rcGr])]; exact sp_number R I (W.1.2 g hg 609 (by simp [rcGr])) hQ
  · have e : w = 5 := toInt_lit y
    subst e
    rw [fi 606 (by simp [rcGi])] at u
    have hQ : Q (if sa σ 606 g = 2 then sa σ 610 g else 0) := hQ
    rw [if_neg u] at hQ
    exact hQ
  · have e : w = 5 := toInt_lit y
    subst e
    rw [fi 606 (by simp [rcGi])] at u
    have hQ : Q (if sa σ 606 g = 2 then sa σ 610 g else 0) := hQ
    rw [if_pos u] at hQ
    rw [fi 610 (by simp [rcGi])]; exact hQ
  · have e : w = 6 := toInt_lit y
    subst e; rw [fi 601 (by simp [rcGi])]; exact hQ
  · have e : w = 7 := toInt_lit y
    subst e; rw [fi 602 (by simp [rcGi])]; exact hQ
  · have e : w = 8 := toInt_lit y
    subst e; rw [fi 603 (by simp [rcGi])]; exact hQ
  · have e : w = 9 := toInt_lit y
    subst e; rw [List.length_map]; exact hQ
/-- 'who' -/
def sWhoG (σ : ZS) (g : Nat) (c d : Int32) : Int32 :=
  if sa σ 10 g = 5 then (if ¬ 0 < d ∧ ¬ c < 0 ∧ c < nI (sl σ 1 g).length then nI ((sl σ 1 g).getD c.toNatClampNeg 0) else -1)
  else sNumO (sIn σ g c d)
def sWho (σ : ZS) (x c d : Int32) : Int32 := if (∃ g, g < sn σ 1 ∧ x = nI g) ∧ ¬ d < 0 ∧ d ≤ 1 then sWhoG σ x.toNatClampNeg c d else -1
theorem sx_who (S : zInvStep) (X : rcX G cb ac tp m t k L P h) (hm : m ≤ 24) {Q : Int32 → Prop} {x c d : Int32} (hQ : Q (sWho (sRun L m) x c d)) : fc_X1_who G cb Q h x c d := by
  obtain ⟨b, A, E, c1, c2, c3, c4, c5, c6, R, I⟩ := X.opn S hm
  have hle := I.le
  have W := I.ref
  generalize sRun L m = σ at *
  unfold sWho at hQ
  have bad : ¬ ((∃ g, g < sn σ 1 ∧ x = nI g) ∧ ¬ d < 0 ∧ d ≤ 1) → Q (-1) := fun hn => by rw [if_neg hn] at hQ; exact hQ
  refine ⟨c1, b, c3, c4, sp_grave R (fun g hg ex => ⟨fun z => (nomatch z), fun b3 e3 => ?_⟩) (fun hno => ⟨fun _ => bad fun q => hno q.1, fun b3 z => (nomatch z)⟩)⟩
  have e3 : A 1 g = b3 := Option.some.inj e3
  subst e3
  have xc : x.toNatClampNeg = g := by rw [ex]; exact nI_clamp (by omega)
  refine ⟨fun z => bad fun q => q.2.1 z, fun z1 => ⟨fun z2 => ?_, fun z2 => bad fun q => z2 q.2.2⟩⟩
  rw [if_pos ⟨⟨g, hg, ex⟩, z1, z2⟩, xc] at hQ
  have hm' := rc_gt R hg
  obtain ⟨g1, g2, g3, g4, g5, g6⟩ := R.2.2.2.2.1 g hg
  have L := rc_lyi R hg
  have hlen := rc_lyn R hg
  unfold sWhoG at hQ
  refine ⟨fun b9 e9 => ?_, fun y => ?_, fun y => ?_⟩
  · cases e9
    simp only [List.mem_cons, List.not_mem_nil, or_false] at hm' ⊢
    omega
  · have k5 : ¬ sa σ 10 g = 5 := fun q => by
      rw [show zin h (some (A 1 g)) [12] = 1 from by unfold zin; simp only []; rw [g1, rcKind_12.mpr q]; rfl] at y
      exact absurd y (by decide)
    rw [if_neg k5] at hQ
    exact sp_in R hg (W.2.1 g hg).2 (sp_numP R I (fun p ep => (W.2.1 g hg).2 p (sIn_mem ep).1) hQ)
  · have k5 : sa σ 10 g = 5 := Classical.byContradiction fun q => y (by
      unfold zin; simp only []
      rw [g1, if_neg]
      simp only [List.contains_cons, List.contains_nil, Bool.or_false, beq_iff_eq]
      exact fun z => q (rcKind_12.mp z))
    rw [if_pos k5] at hQ
    have bad2 : ¬ (¬ 0 < d ∧ ¬ c < 0 ∧ c < nI (sl σ 1 g).length) → fc_X1_who_54 G cb Q h := fun hn => by rw [if_neg hn] at hQ; exact hQ
    refine ⟨fun u => bad2 fun q => q.1 u, fun u => ⟨fun u2 => bad2 fun q => q.2.1 u2, fun u2 => ⟨hm', _, g5, L.1, zl_size L ⟨fun u3 => ⟨hm', L.1, ?_⟩, fun u3 => bad2 fun q => u3 (by rw [List.length_map]; exact q.2.2)⟩⟩⟩⟩
    rw [List.length_map] at u3
    obtain ⟨i, hi31, e⟩ := nI_of u2
    subst e
    have hi : i < (sl σ 1 g).length := (nI_ltI hi31 (by omega)).mp u3
    rw [if_pos ⟨u, u2, u3⟩, nI_clamp hi31] at hQ
    have hgi : (sl σ 1 g)[i]? = some ((sl σ 1 g).getD i 0) := by simp [hi]
    have hp : (sl σ 1 g).getD i 0 < sn σ 2 := (W.2.1 g hg).2 _ (List.mem_of_getElem? hgi)
    obtain ⟨p1, p2, -⟩ := R.2.2.2.1 _ hp
    refine sp_lget R hg hgi ⟨fun b9 e9 => by cases e9; rw [p1]; decide, _, rfl, by rw [p1]; decide, ?_⟩
    rw [p2 700 (by simp [rcPi]), I.p700 _ hp]; exact hQ
/-- 'of' a person there is -/
def sOfP (σ : ZS) (p : Nat) (w : Int32) : Int32 :=
  if w = 0 then (if ¬ sa σ 703 p = 0 then 3 else if ¬ sa σ 710 p = -1 then 2 else if ¬ sa σ 702 p = 0 then 1 else 0) else if w = 1 then sa σ 710 p else if w = 2 then sa σ 711 p else if w = 3 then sa σ 712 p
  else if w = 4 then sa σ 709 p else if w = 5 then sa σ 708 p else if w = 6 then sa σ 701 p else if w = 7 then sa σ 704 p else if w = 8 then sa σ 705 p else sa σ 706 p
abbrev sOfOk (σ : ZS) (x w : Int32) : Prop := (∃ p, p < sn σ 2 ∧ x = nI p) ∧ ¬ w < 0 ∧ w ≤ 9
theorem sx_of (S : zInvStep) (X : rcX G cb ac tp m t k L P h) (hm : m ≤ 24) {Q : Int32 → Prop} {XE : String → Nat → ZH → Prop} {bc bs : Nat} {x w : Int32} (hc : 1 ≤ bc) (hs : 6 ≤ bs)
    (hQ : sOfOk (sRun L m) x w → Q (sOfP (sRun L m) x.toNatClampNeg w)) (hX : ¬ sOfOk (sRun L m) x w → ∀ q, XE "java/util/NoSuchElementException" q h) : fc_X1_of G cb Q XE h bc bs x w := by
  obtain ⟨b, A, E, c1, c2, c3, c4, c5, c6, R, I⟩ := X.opn S hm
  have hle := I.le
  have W := I.ref
  generalize sRun L m = σ at *
  have bad : ¬ sOfOk σ x w → fc_X1_of_23 G cb Q XE h bc bs := fun hn => ⟨hc, hs, hX hn⟩
  refine ⟨c1, b, c3, c4, sp_person R (fun p hp ex => ⟨fun z => (nomatch z), fun b3 e3 => ?_⟩) (fun hno => ⟨fun _ => bad fun q => hno q.1, fun b3 z => (nomatch z)⟩)⟩
  have e3 : A 0 p = b3 := Option.some.inj e3
  subst e3
  have xc : x.toNatClampNeg = p := by rw [ex]; exact nI_clamp (by omega)
  refine ⟨fun z => bad fun q => q.2.1 z, fun z1 => ⟨fun z2 => ?_, fun z2 => bad fun q => z2 q.2.2⟩⟩
  have hQ := hQ ⟨⟨p, hp, ex⟩, z1, z2⟩
  rw [xc] at hQ
  obtain ⟨p1, p2, p3, p4, p5⟩ := R.2.2.2.1 p hp
  have m14 : zt h (A 0 p) ∈ [14] := by rw [p1]; decide
  have w710 := (W.1.1 p hp).2
  have no710 : zr h 710 (A 0 p) = none ↔ sa σ 710 p = -1 := by rw [p4]; exact rfx_no (by omega) w710
  have ok := (W.1.1 p hp).1
  refine ⟨fun y => ⟨m14, ?_⟩, fun y => ⟨m14, fun u => ⟨m14, fun u2 => ⟨m14, fun u3 => ?_, fun u3 => ?_⟩, fun b5 u2 => ?_⟩, fun u => ?_⟩, fun y => ⟨m14, fun u => ?_, fun b6 u => ⟨m14, ?_⟩⟩, fun y => ⟨m14, ?_⟩, fun y => ⟨m14, ?_⟩, fun y => ⟨m14, ?_⟩, fun y => ⟨m14, ?_⟩, fun y => ⟨m14, ?_⟩, fun y => ⟨m14, ?_⟩, fun y => ⟨m14, ?_⟩⟩
  · have ne : ∀ j : Int32, j.toInt ≤ 8 → 0 ≤ j.toInt → ¬ w = j := fun j h1 h2 e => by rw [e] at y; omega
    unfold sOfP at hQ
    rw [if_neg (ne 0 (by decide) (by decide)), if_neg (ne 1 (by decide) (by decide)), if_neg (ne 2 (by decide) (by decide)), if_neg (ne 3 (by decide) (by decide)), if_neg (ne 4 (by decide) (by decide)), if_neg (ne 5 (by decide) (by decide)), if_neg (ne 6 (by decide) (by decide)), if_neg (ne 7 (by decide) (by decide)), if_neg (ne 8 (by decide) (by decide))] at hQ
    rw [p3 706 (by simp [rcPr])]
    exact sp_number R I (ok 706 (by simp [rcPr])) hQ
  · have e : w = 0 := toInt_lit y
    subst e
    have hQ : Q (if ¬ sa σ 703 p = 0 then 3 else if ¬ sa σ 710 p = -1 then 2 else if ¬ sa σ 702 p = 0 then 1 else 0) := hQ
    rw [p2 703 (by simp [rcPi])] at u
    rw [p2 702 (by simp [rcPi])] at u3
    rw [if_neg (fun z => z u), if_neg (fun z => z (no710.mp u2)), if_neg (fun z => z u3)] at hQ
    exact hQ
  · have e : w = 0 := toInt_lit y
    subst e
    have hQ : Q (if ¬ sa σ 703 p = 0 then 3 else if ¬ sa σ 710 p = -1 then 2 else if ¬ sa σ 702 p = 0 then 1 else 0) := hQ
    rw [p2 703 (by simp [rcPi])] at u
    rw [p2 702 (by simp [rcPi])] at u3
    rw [if_neg (fun z => z u), if_neg (fun z => z (no710.mp u2)), if_pos u3] at hQ
    exact hQ
  · have e : w = 0 := toInt_lit y
    subst e
    have hQ : Q (if ¬ sa σ 703 p = 0 then 3 else if ¬ sa σ 710 p = -1 then 2 else if ¬ sa σ 702 p = 0 then 1 else 0) := hQ
    rw [p2 703 (by simp [rcPi])] at u
    rw [if_neg (fun z => z u), if_pos (fun z => by rw [no710.mpr z] at u2; cases u2)] at hQ
    exact hQ
  · have e : w = 0 := toInt_lit y
    subst e
    have hQ : Q (if ¬ sa σ 703 p = 0 then 3 else if ¬ sa σ 710 p = -1 then 2 else if ¬ sa σ 702 p = 0 then 1 else 0) := hQ
    rw [p2 703 (by simp [rcPi])] at u
    rw [if_pos u] at hQ
    exact hQ
  · have e : w = 1 := toInt_lit y
    subst e
    have hQ : Q (sa σ 710 p) := hQ
    rw [no710.mp u] at hQ; exact hQ
  · have e : w = 1 := toInt_lit y
    subst e
    have hQ : Q (sa σ 710 p) := hQ
    rcases rfx_ok (ad := A 1) (by omega) w710 with ⟨e, e2⟩ | ⟨g, hg, e, e2⟩
    · rw [p4, e2] at u; cases u
    · rw [p4, e2] at u
      have u : A 1 g = b6 := Option.some.inj u
      subst u
      refine ⟨rc_gt R hg, ?_⟩
      rw [(R.2.2.2.2.1 g hg).2.1 600 (by simp [rcGi]), (I.2.2.2.1 g hg).1.1, ← e]; exact hQ
  · have e : w = 2 := toInt_lit y
    subst e; rw [p2 711 (by simp [rcPi])]; exact hQ
  · have e : w = 3 := toInt_lit y
    subst e; rw [p2 712 (by simp [rcPi])]; exact hQ
  · have e : w = 4 := toInt_lit y
    subst e; rw [p2 709 (by simp [rcPi])]; exact hQ
  · have e : w = 5 := toInt_lit y
    subst e; rw [p2 708 (by simp [rcPi])]; exact hQ
  · have e : w = 6 := toInt_lit y
    subst e; rw [p2 701 (by simp [rcPi])]; exact hQ
  · have e : w = 7 := toInt_lit y
    subst e; rw [p3 704 (by simp [rcPr])]; exact sp_number R I (ok 704 (by simp [rcPr])) hQ
  · have e : w = 8 := toInt_lit y
    subst e; rw [p3 705 (by simp [rcPr])]; exact sp_number R I (ok 705 (by simp [rcPr])) hQ
/-- where somebody lay on a day: the last of the first i stays -/
def sLast (l : List (Int32 × Int32)) (d : Int32) : Nat → Int32
  | 0 => -1
  | i + 1 => if d < (l.getD i (0, -1)).1 then sLast l d i else (l.getD i (0, -1)).2
def sWhere (σ : ZS) (x d : Int32) : Int32 := if (∃ p, p < sn σ 2 ∧ x = nI p) ∧ ¬ d < 0 ∧ d ≤ sa σ 203 0 then sLast (sy σ x.toNatClampNeg) d (sy σ x.toNatClampNeg).length else -1
theorem sx_where (S : zInvStep) (X : rcX G cb ac tp m t k L P h) (hm : m ≤ 24) {Q : Int32 → Prop} {x d : Int32} (hQ : Q (sWhere (sRun L m) x d)) : fc_X1_where G cb Q h x d := by
  obtain ⟨b, A, E, c1, c2, c3, c4, c5, c6, R, I⟩ := X.opn S hm
  have hle := I.le
  have W := I.ref
  generalize sRun L m = σ at *
  unfold sWhere at hQ
  have bad : ¬ ((∃ p, p < sn σ 2 ∧ x = nI p) ∧ ¬ d < 0 ∧ d ≤ sa σ 203 0) → Q (-1) := fun hn => by rw [if_neg hn] at hQ; exact hQ
  refine ⟨c1, b, c3, c4, sp_person R (fun p hp ex => ⟨fun z => (nomatch z), fun b3 e3 => ?_⟩) (fun hno => ⟨fun _ => bad fun q => hno q.1, fun b3 z => (nomatch z)⟩)⟩
  have e3 : A 0 p = b3 := Option.some.inj e3
  subst e3
  have xc : x.toNatClampNeg = p := by rw [ex]; exact nI_clamp (by omega)
  obtain ⟨p1, p2, p3, p4, p5⟩ := R.2.2.2.1 p hp
  have m14 : zt h (A 0 p) ∈ [14] := by rw [p1]; decide
  have Ls := rc_sty R hp
  have y64 := rc_sy64 R hp
  refine ⟨fun z => bad fun q => q.2.1 z, fun z1 => ⟨c1, c5, fun z2 => ⟨m14, _, p5, Ls.1, zl_size Ls fun x6 e6 => ?_⟩, fun z2 => bad fun q => z2 ?_⟩⟩
  · rw [R.1.2.1] at z2
    rw [if_pos ⟨⟨p, hp, ex⟩, z1, z2⟩, xc] at hQ
    rw [List.length_map, List.length_range] at e6
    subst e6
    have loop : ∀ (f i : Nat), i ≤ (sy σ p).length → i + 1 ≤ f → Q (sLast (sy σ p) d i) → fc_X1_where_41 G cb Q f h d (some (A 0 p)) (nI i - 1) := by
      intro f
      induction f with
      | zero => intro i h1 h2; omega
      | succ f ih =>
        intro i h1 h2 hq
        cases i with
        | zero => exact ⟨fun _ => hq, fun w => absurd (by decide) w⟩
        | succ i =>
          rw [nI_pred]
          refine ⟨fun w => absurd w (nI_pos (by omega)), fun _ => ⟨_, rfl, m14, _, p5, Ls.1, zl_get Ls (by simp; omega) ?_⟩⟩
          have eg : ((List.range (sy σ p).length).map (fun k => A 8 (1000 * p + k)))[i]? = some (A 8 (1000 * p + i)) := by
            rw [List.getElem?_map, List.getElem?_range (by omega)]; rfl
          obtain ⟨s1, dd, tt, s2, s3, s4⟩ := R.2.2.2.2.2.2.2.1 p hp i (by omega)
          have m15 : zt h (A 8 (1000 * p + i)) ∈ [15] := by rw [s1]; decide
          have egd : (sy σ p).getD i (0, -1) = (dd, tt) := by rw [List.getD_eq_getElem?_getD, s2]; rfl
          have hq : Q (if d < ((sy σ p).getD i (0, -1)).1 then sLast (sy σ p) d i else ((sy σ p).getD i (0, -1)).2) := hq
          rw [egd] at hq
          rw [eg]
          refine ⟨fun b9 e9 => by cases e9; exact m15, _, rfl, m15, fun w x5 e5 => ?_, fun w => ⟨m15, fun u => ?_, fun b6 u => ⟨m15, ?_⟩⟩⟩
          · rw [s3] at w
            rw [if_pos w] at hq
            have : x5 = nI i - 1 := by rw [e5, Int32.sub_eq_add_neg]
            subst this
            exact ih i (by omega) (by omega) hq
          · rw [s3] at w
            rw [if_neg w] at hq
            have ht : sOk (sn σ 1) tt := W.2.2.1 p hp (dd, tt) (List.mem_of_getElem? s2)
            rw [s4, rfx_no (by omega) ht] at u
            have hq : Q tt := hq
            rw [u] at hq; exact hq
          · rw [s3] at w
            rw [if_neg w] at hq
            have hq : Q tt := hq
            have ht : sOk (sn σ 1) tt := W.2.2.1 p hp (dd, tt) (List.mem_of_getElem? s2)
            rcases rfx_ok (ad := A 1) (by omega) ht with ⟨e, e2⟩ | ⟨g, hg, e, e2⟩
            · rw [s4, e2] at u; cases u
            · rw [s4, e2] at u
              have u : A 1 g = b6 := Option.some.inj u
              subst u
              refine ⟨rc_gt R hg, ?_⟩
              rw [(R.2.2.2.2.1 g hg).2.1 600 (by simp [rcGi]), (I.2.2.2.1 g hg).1.1, ← e]; exact hq
    exact ⟨(sy σ p).length + 1, loop _ _ (Nat.le_refl _) (Nat.le_refl _) hQ⟩
  · rw [R.1.2.1]; exact q.2.2
/-- 'order' -/
def sOrderAt (σ : ZS) (x i : Int32) : Int32 := if (∃ g, g < sn σ 1 ∧ x = nI g) ∧ sa σ 606 x.toNatClampNeg = 2 ∧ ¬ i < 0 ∧ i < nI (sl σ 0 x.toNatClampNeg).length - sa σ 612 x.toNatClampNeg then nI ((sl σ 0 x.toNatClampNeg).getD (sa σ 612 x.toNatClampNeg + i).toNatClampNeg 0) else -1
theorem sx_order (S : zInvStep) (X : rcX G cb ac tp m t k L P h) (hm : m ≤ 24) {Q : Int32 → Prop} {x i : Int32} (hQ : Q (sOrderAt (sRun L m) x i)) : fc_X1_order G cb Q h x i := by
  obtain ⟨b, A, E, c1, c2, c3, c4, c5, c6, R, I⟩ := X.opn S hm
  have hle := I.le
  have W := I.ref
  generalize sRun L m = σ at *
  unfold sOrderAt at hQ
  have bad : ¬ ((∃ g, g < sn σ 1 ∧ x = nI g) ∧ sa σ 606 x.toNatClampNeg = 2 ∧ ¬ i < 0 ∧ i < nI (sl σ 0 x.toNatClampNeg).length - sa σ 612 x.toNatClampNeg) → Q (-1) := fun hn => by rw [if_neg hn] at hQ; exact hQ
  refine ⟨c1, b, c3, c4, sp_grave R (fun g hg ex => ⟨fun z => (nomatch z), fun b3 e3 => ?_⟩) (fun hno => ⟨fun _ => bad fun q => hno q.1, fun b3 z => (nomatch z)⟩)⟩
  have e3 : A 1 g = b3 := Option.some.inj e3
  subst e3
  have xc : x.toNatClampNeg = g := by rw [ex]; exact nI_clamp (by omega)
  rw [xc] at bad hQ
  have hm' := rc_gt R hg
  obtain ⟨g1, g2, g3, g4, g5, g6⟩ := R.2.2.2.2.1 g hg
  have e606 : zi h 606 (A 1 g) = sa σ 606 g := g2 606 (by simp [rcGi])
  have e612 : zi h 612 (A 1 g) = sa σ 612 g := g2 612 (by simp [rcGi])
  have L := rc_ord R hg
  have oo := (I.2.2.2.1 g hg).1.2.2.2.2.2.2.2.1
  have len := nodup_len (sn σ 2) (sl σ 0 g) oo.1 oo.2
  refine ⟨hm', fun w => bad fun q => w (e606.trans q.2.1), fun w => ⟨fun z => bad fun q => q.2.2.1 z, fun z => ⟨hm', _, g4, L.1, zl_size L ⟨hm', fun w3 => ⟨hm', hm', L.1, ?_⟩, fun w3 => bad fun q => w3 (by rw [List.length_map, e612]; exact q.2.2.2)⟩⟩⟩⟩
  rw [e606] at w
  rw [List.length_map, e612] at w3
  rw [if_pos ⟨⟨g, hg, ex⟩, w, z, w3⟩] at hQ
  obtain ⟨-, kk, k1, k2, k3⟩ := (I.2.2.2.1 g hg).1.2.2.2.2.2.2.2.2.1 w
  obtain ⟨j, hj31, e⟩ := nI_of z
  subst e
  rw [k1, zs_sub k2] at w3
  have hlt : j < (sl σ 0 g).length - kk := (nI_ltI hj31 (by omega)).mp w3
  rw [k1, nI_add, nI_clamp (by omega)] at hQ
  rw [e612, k1, nI_add]
  have hgi : (sl σ 0 g)[kk + j]? = some ((sl σ 0 g).getD (kk + j) 0) := by
    have : kk + j < (sl σ 0 g).length := by omega
    simp [this]
  have hp : (sl σ 0 g).getD (kk + j) 0 < sn σ 2 := oo.2 _ (List.mem_of_getElem? hgi)
  obtain ⟨p1, p2, -⟩ := R.2.2.2.1 _ hp
  refine zl_get L (by rw [List.length_map]; omega) ?_
  rw [List.getElem?_map, hgi]
  refine ⟨fun b9 e9 => by cases e9; rw [p1]; decide, _, rfl, by rw [p1]; decide, ?_⟩
  rw [p2 700 (by simp [rcPi]), I.p700 _ hp]; exact hQ
/-- counts -/
def sStates (σ : ZS) (s : Int32) : Nat → Int32
  | 0 => 0
  | i + 1 => sStates σ s i + (if sa σ 606 i = s then 1 else 0)
def sPersons (σ : ZS) (gone : Int32) : Nat → Int32
  | 0 => 0
  | i + 1 => sPersons σ gone i + (if gone = 0 then (if sa σ 710 i = -1 then 0 else 1) else (if sa σ 703 i = 0 then 0 else 1))
theorem sx_states (S : zInvStep) (X : rcX G cb ac tp m t k L P h) (hm : m ≤ 24) {Q : Int32 → Prop} {s : Int32} (hQ : Q (sStates (sRun L m) s (sn (sRun L m) 1))) : fc_X1_states G cb Q h s := by
  obtain ⟨b, A, E, c1, c2, c3, c4, c5, c6, R, I⟩ := X.opn S hm
  have hle := I.le
  generalize sRun L m = σ at *
  have L1 := rc_ls R (j := 1) (Or.inl (by omega))
  have hlen1 : (rcCon A σ 1).length = sn σ 1 := by rw [rc_con1]; simp
  have loop : ∀ (f i : Nat), i ≤ sn σ 1 → sn σ 1 + 1 ≤ i + f → fc_X1_states_4 G cb Q f h s (sStates σ s i) (nI i) := by
    intro f
    induction f with
    | zero => intro i h1 h2; omega
    | succ f ih =>
      intro i h1 h2
      refine ⟨c1, b, c3, c5, A 5 1, R.1.2.2.2.2.1, L1.1, zl_size L1 ⟨fun w => ?_, fun w => ⟨c1, c5, L1.1, ?_⟩⟩⟩
      · rw [hlen1] at w
        have ei : i = sn σ 1 := by have := (nI_leI (by omega) (by omega)).mp w; omega
        rw [ei]; exact hQ
      · rw [hlen1] at w
        have hi : i < sn σ 1 := Classical.byContradiction fun q => w (nI_le (by omega) (by omega))
        have e606 : zi h 606 (A 1 i) = sa σ 606 i := (R.2.2.2.2.1 i hi).2.1 606 (by simp [rcGi])
        have es : sStates σ s (i + 1) = sStates σ s i + (if sa σ 606 i = s then 1 else 0) := rfl
        have hm' := rc_gt R hi
        refine sp_gget R hi ⟨fun b9 e9 => by cases e9; exact hm', _, rfl, hm', fun y x1 e1 x2 e2 => ?_, fun y x1 e1 x2 e2 => ?_⟩
        · rw [e606] at y
          rw [if_neg y] at es
          rw [nI_1] at e2
          subst e2
          rw [e1, ← es]; exact ih (i + 1) (by omega) (by omega)
        · rw [e606] at y
          rw [if_pos y] at es
          rw [nI_1] at e2
          subst e2
          rw [e1, ← es]; exact ih (i + 1) (by omega) (by omega)
  exact ⟨sn σ 1 + 1, loop _ 0 (by omega) (by omega)⟩
theorem sx_persons (S : zInvStep) (X : rcX G cb ac tp m t k L P h) (hm : m ≤ 24) {Q : Int32 → Prop} {s : Int32} (hQ : Q (sPersons (sRun L m) s (sn (sRun L m) 2))) : fc_X1_persons G cb Q h s := by
  obtain ⟨b, A, E, c1, c2, c3, c4, c5, c6, R, I⟩ := X.opn S hm
  have hle := I.le
  have W := I.ref
  generalize sRun L m = σ at *
  have L1 := rc_ls R (j := 2) (Or.inl (by omega))
  have hlen1 : (rcCon A σ 2).length = sn σ 2 := by rw [rc_con2]; simp
  have loop : ∀ (f i : Nat), i ≤ sn σ 2 → sn σ 2 + 1 ≤ i + f → fc_X1_persons_4 G cb Q f h s (sPersons σ s i) (nI i) := by
    intro f
    induction f with
    | zero => intro i h1 h2; omega
    | succ f ih =>
      intro i h1 h2
      refine ⟨c1, b, c3, c5, A 5 2, R.1.2.2.2.2.2.1, L1.1, zl_size L1 ⟨fun w => ?_, fun w => ?_⟩⟩
      · rw [hlen1] at w
        have ei : i = sn σ 2 := by have := (nI_leI (by omega) (by omega)).mp w; omega
        rw [ei]; exact hQ
      · rw [hlen1] at w
        have hi : i < sn σ 2 := Classical.byContradiction fun q => w (nI_le (by omega) (by omega))
        obtain ⟨p1, p2, p3, p4, p5⟩ := R.2.2.2.1 i hi
        have m14 : zt h (A 0 i) ∈ [14] := by rw [p1]; decide
        have no710 : zr h 710 (A 0 i) = none ↔ sa σ 710 i = -1 := by rw [p4]; exact rfx_no (by omega) (W.1.1 i hi).2
        have e703 : zi h 703 (A 0 i) = sa σ 703 i := p2 703 (by simp [rcPi])
        have es : sPersons σ s (i + 1) = sPersons σ s i + (if s = 0 then (if sa σ 710 i = -1 then 0 else 1) else (if sa σ 703 i = 0 then 0 else 1)) := rfl
        have nx : ∀ t1, sPersons σ s (i + 1) = sPersons σ s i + t1 → fc_X1_persons_71 G cb Q (fun h9 y0 y1 y2 => fc_X1_persons_4 G cb Q f h9 y0 y1 y2) h s (nI i) (sPersons σ s i) t1 := by
          intro t1 e x1 e1 x2 e2
          rw [nI_1] at e2
          subst e2
          rw [e1, ← e]; exact ih (i + 1) (by omega) (by omega)
        refine ⟨fun s0 => ⟨c1, c5, L1.1, sp_pget R hi ⟨fun b9 e9 => by cases e9; exact m14, _, rfl, m14, fun y => nx 0 ?_, fun b6 y => nx 1 ?_⟩⟩, fun s0 => ⟨c1, c5, L1.1, sp_pget R hi ⟨fun b9 e9 => by cases e9; exact m14, _, rfl, m14, fun y => nx 0 ?_, fun y => nx 1 ?_⟩⟩⟩
        · rw [es, if_pos s0, if_pos (no710.mp y)]
        · rw [es, if_pos s0, if_neg (fun z => by rw [no710.mpr z] at y; cases y)]
        · rw [es, if_neg s0, if_pos (e703.symm.trans y)]
        · rw [es, if_neg s0, if_neg (fun z => y (e703.trans z))]
  exact ⟨sn σ 2 + 1, loop _ 0 (by omega) (by omega)⟩
/-- 'count' -/
def sCount (σ : ZS) (m t k : Nat) (w : Int32) : Int32 :=
  if w = 0 then nI (sn σ 0) else if w = 1 then nI (sn σ 1) else if w = 2 then nI (sn σ 2) else if w = 3 then sa σ 203 0 else if w = 4 then nI m else if w = 5 then sa σ 204 0
  else if w = 6 then sPersons σ 0 (sn σ 2) else if w = 7 then sPersons σ 1 (sn σ 2) else if w = 8 then sStates σ 1 (sn σ 1) else if w = 9 then sStates σ 2 (sn σ 1) else if w = 10 then sStates σ 3 (sn σ 1) else if w = 11 then sStates σ 4 (sn σ 1)
  else if w = 12 then nI t else if w = 13 then nI k else -1
theorem sx_count (S : zInvStep) (X : rcX G cb ac tp m t k L P h) (hm : m ≤ 24) {Q : Int32 → Prop} {w : Int32} (hQ : Q (sCount (sRun L m) m t k w)) : fc_X1_count G cb Q h w := by
  have X0 := X
  obtain ⟨b, A, E, c1, c2, c3, c4, c5, ⟨d1, d2, d3⟩, R, I⟩ := X.opn S hm
  have ls : ∀ j, j < 3 → zL h (A 5 j) (E j) (rcCon A (sRun L m) j) := fun j hj => rc_ls R (Or.inl hj)
  refine ⟨fun y => ?_, fun y => ⟨c1, b, c3, c5, _, R.1.2.2.2.1, (ls 0 (by omega)).1, zl_size (ls 0 (by omega)) ?_⟩, fun y => ⟨c1, b, c3, c5, _, R.1.2.2.2.2.1, (ls 1 (by omega)).1, zl_size (ls 1 (by omega)) ?_⟩, fun y => ⟨c1, b, c3, c5, _, R.1.2.2.2.2.2.1, (ls 2 (by omega)).1, zl_size (ls 2 (by omega)) ?_⟩, fun y => ⟨c1, b, c3, c5, ?_⟩, fun y => ⟨c1, ?_⟩, fun y => ⟨c1, b, c3, c5, ?_⟩, fun y => ⟨c2, sx_persons S X0 hm ?_⟩, fun y => ⟨c2, sx_persons S X0 hm ?_⟩, fun y => ⟨c2, sx_states S X0 hm ?_⟩, fun y => ⟨c2, sx_states S X0 hm ?_⟩, fun y => ⟨c2, sx_states S X0 hm ?_⟩, fun y => ⟨c2, sx_states S X0 hm ?_⟩, fun y => ⟨c1, ?_⟩, fun y => ⟨c1, ?_⟩⟩
  · have ne : ∀ j : Int32, j.toInt ≤ 13 → 0 ≤ j.toInt → ¬ w = j := fun j h1 h2 e => by rw [e] at y; omega
    unfold sCount at hQ
    rw [if_neg (ne 0 (by decide) (by decide)), if_neg (ne 1 (by decide) (by decide)), if_neg (ne 2 (by decide) (by decide)), if_neg (ne 3 (by decide) (by decide)), if_neg (ne 4 (by decide) (by decide)), if_neg (ne 5 (by decide) (by decide)), if_neg (ne 6 (by decide) (by decide)), if_neg (ne 7 (by decide) (by decide)), if_neg (ne 8 (by decide) (by decide)), if_neg (ne 9 (by decide) (by decide)), if_neg (ne 10 (by decide) (by decide)), if_neg (ne 11 (by decide) (by decide)), if_neg (ne 12 (by decide) (by decide)), if_neg (ne 13 (by decide) (by decide))] at hQ
    exact hQ
  · have e : w = 0 := toInt_lit y
    subst e
    rw [rc_con0, List.length_map, List.length_range]; exact hQ
  · have e : w = 1 := toInt_lit y
    subst e
    rw [rc_con1, List.length_map, List.length_range]; exact hQ
  · have e : w = 2 := toInt_lit y
    subst e
    rw [rc_con2, List.length_map, List.length_range]; exact hQ
  · have e : w = 3 := toInt_lit y
    subst e
    rw [R.1.2.1]; exact hQ
  · have e : w = 4 := toInt_lit y
    subst e
    rw [d1]; exact hQ
  · have e : w = 5 := toInt_lit y
    subst e
    rw [R.1.2.2.1]; exact hQ
  · have e : w = 6 := toInt_lit y
    subst e; exact hQ
  · have e : w = 7 := toInt_lit y
    subst e; exact hQ
  · have e : w = 8 := toInt_lit y
    subst e; exact hQ
  · have e : w = 9 := toInt_lit y
    subst e; exact hQ
  · have e : w = 10 := toInt_lit y
    subst e; exact hQ
  · have e : w = 11 := toInt_lit y
    subst e; exact hQ
  · have e : w = 12 := toInt_lit y
    subst e
    rw [d2]; exact hQ
  · have e : w = 13 := toInt_lit y
    subst e
    rw [d3]; exact hQ
end ZLO
