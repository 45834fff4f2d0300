/-! THE COMPONENT: tapes tried, loaded; acts taken back. -/
set_option maxRecDepth 100000
section ZTY
variable {G : Nat × Nat × Nat} {F F' : Nat → Prop} {h0 h h' : ZH} {A A' : ZA} {E E' : Nat → Nat} {σ σ' : ZS} {cb b ac tp n m t k : Nat} {L P : Nat → Int32}
def zSum (f : Nat → Nat) : Nat → Nat → Nat
  | _, 0 => 0
  | i, c + 1 => f i + zSum f (i + 1) c
/-- the first of the rest that is refused -/
def sFirstF (P : Nat → Int32) : Nat → Nat → Int32
  | 0, _ => -1
  | c + 1, i => if sAns P i < 0 then nI i else sFirstF P c (i + 1)
def sFirst (P : Nat → Int32) (n : Nat) : Int32 := sFirstF P n 0
theorem sFirstF_good : ∀ c i, (∀ j, i ≤ j → j < i + c → ¬ sAns P j < 0) → sFirstF P c i = -1 := by
  intro c
  induction c with
  | zero => intro i _; rfl
  | succ c ih =>
    intro i g
    unfold sFirstF
    rw [if_neg (g i (by omega) (by omega))]
    exact ih (i + 1) fun j h1 h2 => g j (by omega) (by omega)
theorem sFirst_good (g : sGood P n) : sFirst P n = -1 := sFirstF_good n 0 fun j _ h2 => g j (by omega)
theorem sFirstF_bad : ∀ c i j, i ≤ j → j < i + c → (∀ x, i ≤ x → x < j → ¬ sAns P x < 0) → sAns P j < 0 → sFirstF P c i = nI j := by
  intro c
  induction c with
  | zero => intro i j h1 h2; omega
  | succ c ih =>
    intro i j h1 h2 g hb
    unfold sFirstF
    by_cases q : i = j
    · subst q; rw [if_pos hb]
    · rw [if_neg (g i (by omega) (by omega))]
      exact ih (i + 1) j (by omega) (by omega) (fun x h1 h2 => g x (by omega) h2) hb
theorem sFirst_bad {i : Nat} (hi : i < n) (g : sGood P i) (hb : sAns P i < 0) : sFirst P n = nI i := sFirstF_bad n 0 i (by omega) (by omega) (fun x _ h2 => g x h2) hb
theorem sp_first (S : zInvStep) (R : rcAll G F h0 A E h s0 cb b) {arr : Nat} (hF : F arr) (ha : zt h0 arr = 20) (hl : zl h0 arr = 2400) (hP : ∀ i, i < 6 * n → zj h0 0 arr i = P i) (hn : n ≤ 24) {Q : Int32 → ZH → Prop} {bc bs : Nat} (hc : zSum zCC 0 n ≤ bc) (hs : zSum zCS 0 n ≤ bs)
    (hQ1 : sGood P n → ∀ A' E' h', rcAll G F h0 A' E' h' (sRun P n) cb b → Q (-1) h')
    (hQ2 : ∀ i, i < n → sGood P i → sAns P i < 0 → ∀ h', (∀ a, F a → zSm h0 h' a) → Q (nI i) h') : fc_X1_firstRefused G cb Q h bc bs (some b) (some arr) (nI n) := by
  have loop : ∀ (f i : Nat) (A : ZA) (E : Nat → Nat) (hh : ZH) (c1 s1 : Nat), i ≤ n → n + 1 ≤ i + f → zSum zCC i (n - i) ≤ c1 → zSum zCS i (n - i) ≤ s1 → sGood P i → rcAll G F h0 A E hh (sRun P i) cb b → fc_X1_firstRefused_3 G cb Q f hh c1 s1 (some b) (some arr) (nI n) (nI i) := by
    intro f
    induction f with
    | zero => intro i A E hh c1 s1 h1 h2; omega
    | succ f ih =>
      intro i A E hh c1 s1 h1 h2 h3 h4 g Ri
      obtain ⟨a0, a1, a2, a3, a4⟩ := Ri.2.2.2.2.2.2.2.2.2 arr hF
      have ta : zt hh arr = 20 := a1.trans ha
      have la : zl hh arr = 2400 := a2.trans hl
      refine ⟨fun w => ?_, fun w => ?_⟩
      · have ei : i = n := by have := (nI_leI (by omega) (by omega)).mp w; omega
        subst ei
        exact hQ1 g A E hh Ri
      · have hi : i < n := Classical.byContradiction fun q => w (nI_le (by omega) (by omega))
        have m6 : 6 * nI i = nI (6 * i) := by
          show nI 6 * nI i = _
          rw [pk_mul]
        have mj : ∀ j : Nat, nI (6 * i) + nI j = nI (6 * i + j) := fun j => nI_add _ _
        have at' : ∀ j, j < 6 → vp_in (nI (6 * i + j)) (zl hh arr) ∧ zj hh 0 arr (nI (6 * i + j)).toNatClampNeg = P (6 * i + j) := fun j hj => by
          rw [la, nI_clamp (by omega)]
          exact ⟨nI_in (by omega) (by omega), (a4 0 _ (by omega)).1.trans (hP _ (by omega))⟩
        have e1 : nI (6 * i) + 1 = nI (6 * i + 1) := mj 1
        have e2 : nI (6 * i) + 2 = nI (6 * i + 2) := mj 2
        have e3 : nI (6 * i) + 3 = nI (6 * i + 3) := mj 3
        have e4 : nI (6 * i) + 4 = nI (6 * i + 4) := mj 4
        have e5 : nI (6 * i) + 5 = nI (6 * i + 5) := mj 5
        have z0 := at' 0 (by omega)
        rw [Nat.add_zero] at z0
        have sC : zSum zCC i (n - i) = zCC i + zSum zCC (i + 1) (n - (i + 1)) := by rw [show n - i = (n - (i + 1)) + 1 by omega]; rfl
        have sS : zSum zCS i (n - i) = zCS i + zSum zCS (i + 1) (n - (i + 1)) := by rw [show n - i = (n - (i + 1)) + 1 by omega]; rfl
        rw [m6, e1, e2, e3, e4, e5]
        refine ⟨arr, rfl, ta, z0.1, ta, (at' 1 (by omega)).1, ta, (at' 2 (by omega)).1, ta, (at' 3 (by omega)).1, ta, (at' 4 (by omega)).1, ta, (at' 5 (by omega)).1, b, rfl, Ri.1.1, zCC i, zCS i, by omega, by omega, ?_⟩
        rw [z0.2, (at' 1 (by omega)).2, (at' 2 (by omega)).2, (at' 3 (by omega)).2, (at' 4 (by omega)).2, (at' 5 (by omega)).2]
        have I := sRun_inv S i (by omega) g
        refine sp_works Ri I (Nat.le_refl _) (Nat.le_refl _) (fun v' e hv q h8 z6 z400 fr => ⟨rfl, ?_⟩) (fun r σ' A' E' h6 e nn R6 x9 e9 => ?_)
        · refine hQ2 i hi g ?_ h8 fun a ha' => ?_
          · unfold sAns
            rw [e]; exact hv
          · exact (Ri.2.2.2.2.2.2.2.2.2 a ha').2.fr (Ri.2.2.2.2.2.2.2.2.2 a ha').1 fr
        · rw [nI_1] at e9
          subst e9
          have er : sRun P (i + 1) = σ' := by
            show (sWorks (sRun P i) _ _ _ _ _ _).2 = _
            rw [e]
          have ea : sAns P i = r := by
            unfold sAns
            rw [e]
          refine ih (i + 1) A' E' h6 _ _ (by omega) (by omega) (by omega) (by omega) (fun j hj => ?_) (by rw [er]; exact R6)
          by_cases q : j = i
          · rw [q, ea]; exact nn
          · exact g j (by omega)
  exact ⟨n + 1, loop (n + 1) 0 A E h bc bs (by omega) (by omega) (by simpa using hc) (by simpa using hs) (fun j hj => absurd hj (Nat.not_lt_zero j)) R⟩
theorem rcTop.nz (T : rcTop cb ac tp b m t k L P h) : ∀ a, zF0 cb ac tp a → zt h a ≠ 0 := by
  obtain ⟨⟨t1, -⟩, ⟨u1, u2, u3, u4, u5⟩, -⟩ := T
  rintro a (q | q | q) <;> subst q
  · rw [t1]; decide
  · rw [u1]; decide
  · rw [u3]; decide
/-- one try more, the tape empty -/
theorem rcTop.try (T : rcTop cb ac tp b m t k L P h) : rcTop cb ac tp b m 0 (k + 1) L P (zpi (zpi h 107 cb (nI (k + 1))) 106 cb 0) := by
  obtain ⟨⟨t1, t2, t3, t4, t5, t6, t7⟩, u, w1, w2⟩ := T
  exact ⟨⟨t1, t2, t3, by rw [zi_pi, if_neg (by omega), zi_pi, if_neg (by omega)]; exact t4, t5, by rw [zi_pi, if_pos ⟨rfl, rfl⟩]; rfl, by rw [zi_pi, if_neg (by omega), zi_pi, if_pos ⟨rfl, rfl⟩]⟩, u, w1, fun i hi => absurd hi (by omega)⟩
theorem sp_check (S : zInvStep) (X : rcX G cb ac tp m t k L P h) (hm : m ≤ 24) (ht : t ≤ 24) (hk : k < 24) {Q : Int32 → ZH → Prop} {bc bs : Nat} (hc : 5 + zSum zCC 0 t ≤ bc) (hs : 17 + zSum zCS 0 t ≤ bs)
    (hQ : ∀ h', rcX G cb ac tp m 0 (k + 1) L P h' → Q (sFirst P t) h') : fc_X1_check G cb Q h bc bs := by
  obtain ⟨b, A, E, T, R, g⟩ := X
  have T3 := T.try
  have T0 := T
  obtain ⟨⟨t1, t2, t3, t4, t5, t6, t7⟩, ⟨u1, u2, u3, u4, u5⟩, w1, w2⟩ := T
  have m1 : zt h cb ∈ [1] := by rw [t1]; decide
  refine ⟨m1, fun _ => ⟨m1, m1, fun h1 e1 => ⟨by rw [e1]; exact m1, fun x2 e2 => ⟨by rw [e1]; exact m1, fun h3 e3 => ⟨by omega, by omega, fun a4 h5 z e5 => ⟨4, 11, by omega, by omega, ?_⟩⟩⟩⟩⟩, fun z => ?_⟩
  · rw [t7, nI_1] at e1
    subst e1
    have e2 : x2 = nI t := by rw [e2, zi_pi, if_neg (by omega)]; exact t6
    subst e2
    subst e3
    subst e5
    have R3 : rcAll G (zF0 cb ac tp) _ A E (zpi (zpi h 107 cb (nI (k + 1))) 106 cb 0) (sRun L m) cb b := rc_tp (zTp.i (by omega)) (rc_tp (zTp.i (by omega)) R)
    have nz3 := T3.nz
    have tape3 : ∀ i, i < 6 * t → zj (zpi (zpi h 107 cb (nI (k + 1))) 106 cb 0) 0 tp i = P i := w2
    generalize zpi (zpi h 107 cb (nI (k + 1))) 106 cb 0 = h3 at *
    have T3' := T3
    obtain ⟨⟨y1, y2, y3, y4, y5, y6, y7⟩, ⟨x1, x2, x3, x4, x5⟩, s1, s2⟩ := T3
    refine sp_book z R3.2.2.1 (Nat.le_refl _) (Nat.le_refl _) fun A4 E4 h8 fr8 R4 => ?_
    obtain ⟨c1, c2, c3, c4⟩ := fr8 cb (by rw [y1]; decide)
    have c8 : zt h8 cb = 1 := c1.trans y1
    refine ⟨by rw [c8]; decide, c8, zSum zCC 0 t, zSum zCS 0 t, by omega, by omega, ?_⟩
    rw [(c3 105).2, y5]
    have fin : ∀ h', zFm h3 h' → rcX G cb ac tp m 0 (k + 1) L P h' := fun h' fm => ⟨b, A, E, T3'.sm (by omega) (by omega) fun a ha => fm a (nz3 a ha), rc_base (rc_fm R3 fm), g⟩
    refine sp_first S R4 (P := P) (show zt h3 tp ≠ 0 from by rw [x3]; decide) x3 x4 tape3 ht (Nat.le_refl _) (Nat.le_refl _) (fun gd A' E' h' R' => ?_) (fun i hi gd hb h' fm => ?_)
    · rw [← sFirst_good gd]
      exact hQ h' (fin h' fun a ha => (R'.2.2.2.2.2.2.2.2.2 a ha).2)
    · rw [← sFirst_bad hi gd hb]
      exact hQ h' (fin h' fun a ha => fm a ha)
  · rw [t7] at z
    exact absurd ((nI_eq (b := 60) (by omega) (by omega)).mp z) (by omega)
theorem sp_load (S : zInvStep) (X : rcX G cb ac tp m t k L P h) (hm : m ≤ 24) (ht : t ≤ 24) (hk : k < 24) {Q : Int32 → ZH → Prop} {bc bs : Nat} (hc : 5 + zSum zCC 0 t ≤ bc) (hs : 17 + zSum zCS 0 t ≤ bs)
    (hQ1 : sGood P t → ∀ h', rcX G cb ac tp t 0 (k + 1) P P h' → Q (nI t) h') (hQ2 : ∀ i, i < t → sGood P i → sAns P i < 0 → ∀ h', rcX G cb ac tp m 0 (k + 1) L P h' → Q (-1) h') : fc_X1_load G cb Q h bc bs := by
  obtain ⟨b, A, E, T, R, g⟩ := X
  have T3 := T.try
  have T0 := T
  obtain ⟨⟨t1, t2, t3, t4, t5, t6, t7⟩, ⟨u1, u2, u3, u4, u5⟩, w1, w2⟩ := T
  have m1 : zt h cb ∈ [1] := by rw [t1]; decide
  refine ⟨m1, fun _ => ⟨m1, m1, fun h1 e1 => ⟨by rw [e1]; exact m1, fun x2 e2 => ⟨by rw [e1]; exact m1, fun h3 e3 => ⟨by omega, by omega, fun a4 h5 z e5 => ⟨4, 11, by omega, by omega, ?_⟩⟩⟩⟩⟩, fun z => ?_⟩
  · rw [t7, nI_1] at e1
    subst e1
    have e2 : x2 = nI t := by rw [e2, zi_pi, if_neg (by omega)]; exact t6
    subst e2
    subst e3
    subst e5
    have R3 : rcAll G (zF0 cb ac tp) _ A E (zpi (zpi h 107 cb (nI (k + 1))) 106 cb 0) (sRun L m) cb b := rc_tp (zTp.i (by omega)) (rc_tp (zTp.i (by omega)) R)
    have nz3 := T3.nz
    have tape3 : ∀ i, i < 6 * t → zj (zpi (zpi h 107 cb (nI (k + 1))) 106 cb 0) 0 tp i = P i := w2
    generalize zpi (zpi h 107 cb (nI (k + 1))) 106 cb 0 = h3 at *
    have T3' := T3
    obtain ⟨⟨y1, y2, y3, y4, y5, y6, y7⟩, ⟨x1, x2, x3, x4, x5⟩, s1, s2⟩ := T3
    refine sp_book z R3.2.2.1 (Nat.le_refl _) (Nat.le_refl _) fun A4 E4 h8 fr8 R4 => ?_
    obtain ⟨c1, c2, c3, c4⟩ := fr8 cb (by rw [y1]; decide)
    have c8 : zt h8 cb = 1 := c1.trans y1
    refine ⟨by rw [c8]; decide, c8, zSum zCC 0 t, zSum zCS 0 t, by omega, by omega, ?_⟩
    rw [(c3 105).2, y5]
    refine sp_first S R4 (P := P) (show zt h3 tp ≠ 0 from by rw [x3]; decide) x3 x4 tape3 ht (Nat.le_refl _) (Nat.le_refl _) (fun gd A' E' h12 R12 => ⟨fun _ => ?_, fun q => absurd rfl q⟩) (fun i hi gd hb h' fm => ⟨fun q => absurd q (nI_neg1 (by omega)), fun _ => ?_⟩)
    · have fm : zFm h3 h12 := fun a ha => (R12.2.2.2.2.2.2.2.2.2 a ha).2
      have R12 : rcAll G (zF0 cb ac tp) h12 A' E' h12 (sRun P t) cb a4 := rc_base (rc_sub R12 fun a ha => nz3 a ha)
      have T12 := T3'.sm (by omega) (by omega) fun a ha => fm a (nz3 a ha)
      have tape12 : ∀ i, i < 6 * t → zj h12 0 tp i = P i := fun i hi => by
        rw [((fm tp (by rw [x3]; decide)).2.2.2 0 i (by rw [x4]; omega)).1]; exact tape3 i hi
      obtain ⟨⟨y1, y2, y3, y4, y5, y6, y7⟩, ⟨x1, x2, x3, x4, x5⟩, s1, s2⟩ := T12
      have m12 : zt h12 cb ∈ [1] := by rw [y1]; decide
      have m6 : 6 * nI t = nI (6 * t) := by
        show nI 6 * nI t = _
        rw [pk_mul]
      refine ⟨m12, fun h13 e13 => ⟨by rw [e13]; exact m12, by rw [e13]; exact m12, ac, by rw [e13, zr_pr, if_neg (by omega)]; exact y3, tp, by rw [e13, zr_pr, if_neg (by omega)]; exact y5, by rw [e13]; exact x3, by rw [e13]; exact x1, by rw [e13, zl_pr, x2]; decide, ⟨by decide, by decide, by rw [m6]; exact nI_pos (by omega), ?_, ?_⟩, fun h16 e16 => ⟨by rw [e16, e13]; exact m12, fun h17 e17 => ?_⟩⟩⟩
      · rw [m6, nI_clamp (by omega), e13, zl_pr, x4]; show 0 + 6 * t ≤ 2400; omega
      · rw [m6, nI_clamp (by omega), e13, zl_pr, x2]; show 0 + 6 * t ≤ 2400; omega
      · rw [m6, nI_clamp (by omega)] at e16
        have e16 : h16 = zcpj h13 0 tp 0 ac 0 (6 * t) := e16
        have R17 : rcAll G (zF0 cb ac tp) h17 A' E' h17 (sRun P t) cb a4 := by
          rw [e17, e16, e13]
          exact rc_tp (zTp.i (by omega)) (rc_tp zTp.c (rc_tp zTp.r R12))
        have j17 : ∀ c i, zj h17 0 c i = if c = ac ∧ i < 6 * t then zj h12 0 tp i else zj h12 0 c i := fun c i => by
          rw [e17, zj_pi, e16, zj_cpj, e13]
          by_cases q : c = ac ∧ i < 6 * t
          · rw [if_pos q, if_pos ⟨rfl, q.1, Nat.zero_le _, by omega⟩, zj_pr]
            congr 1; omega
          · rw [if_neg q, if_neg (fun w => q ⟨w.2.1, by omega⟩), zj_pr]
        refine hQ1 gd h17 ⟨a4, A', E', ⟨⟨by rw [e17, e16, e13]; exact y1, by rw [e17, e16, e13, zr_pi, zr_cpj, zr_pr, if_pos ⟨rfl, rfl⟩], by rw [e17, e16, e13, zr_pi, zr_cpj, zr_pr, if_neg (by omega)]; exact y3, by rw [e17, zi_pi, if_pos ⟨rfl, rfl⟩], by rw [e17, e16, e13, zr_pi, zr_cpj, zr_pr, if_neg (by omega)]; exact y5, by rw [e17, zi_pi, if_neg (by omega), e16, e13]; exact y6, by rw [e17, zi_pi, if_neg (by omega), e16, e13]; exact y7⟩, ⟨by rw [e17, e16, e13]; exact x1, by rw [e17, e16, e13]; exact x2, by rw [e17, e16, e13]; exact x3, by rw [e17, e16, e13]; exact x4, x5⟩, fun i hi => ?_, fun i hi => absurd hi (by omega)⟩, R17, gd⟩
        rw [j17, if_pos ⟨rfl, hi⟩]; exact tape12 i hi
    · refine hQ2 i hi gd hb h' ⟨b, A, E, T3'.sm (by omega) (by omega) fun a ha => fm a (nz3 a ha), rc_base (rc_fm R3 fun a ha => fm a ha), g⟩
  · rw [t7] at z
    exact absurd ((nI_eq (b := 60) (by omega) (by omega)).mp z) (by omega)
theorem sp_undo (S : zInvStep) (X : rcX G cb ac tp m t k L P h) (hm : m ≤ 24) (ht : t ≤ 24) (hk : k < 24) {Q : Int32 → ZH → Prop} {bc bs : Nat} (hc : 5 + zSum zCC 0 (m - 1) ≤ bc) (hs : 17 + zSum zCS 0 (m - 1) ≤ bs)
    (hQ0 : m = 0 → Q (-1) h) (hQ1 : 0 < m → ∀ h', rcX G cb ac tp (m - 1) t (k + 1) L P h' → Q (L (6 * (m - 1))) h') : fc_X1_undo G cb Q h bc bs := by
  obtain ⟨b, A, E, T, R, g⟩ := X
  have T0 := T
  obtain ⟨⟨t1, t2, t3, t4, t5, t6, t7⟩, ⟨u1, u2, u3, u4, u5⟩, w1, w2⟩ := T
  have m1 : zt h cb ∈ [1] := by rw [t1]; decide
  refine ⟨m1, fun w => ⟨m1, fun _ => ⟨m1, m1, fun h1 e1 => ⟨by rw [e1]; exact m1, by rw [e1]; exact m1, fun h2 e2 => ⟨by omega, by omega, fun a3 h4 z e4 => ⟨4, 11, by omega, by omega, ?_⟩⟩⟩⟩, fun z => ?_⟩, fun z => ?_⟩
  · rw [t4] at w
    have m0 : 0 < m := Nat.pos_of_ne_zero fun q => w (by rw [q]; rfl)
    rw [t7, nI_1] at e1
    have e2 : h2 = zpi h1 104 cb (nI (m - 1)) := by rw [e2, e1, zi_pi, if_neg (by omega), t4, nI_pred' m0]
    have R2 : rcAll G (zF0 cb ac tp) h2 A E h2 (sRun L m) cb b := by
      rw [e2, e1]
      exact rc_tp (zTp.i (by omega)) (rc_tp (zTp.i (by omega)) R)
    have T2 : rcTop cb ac tp b (m - 1) t (k + 1) L P h2 := by
      rw [e2, e1]
      exact ⟨⟨t1, t2, t3, by rw [zi_pi, if_pos ⟨rfl, rfl⟩], t5, by rw [zi_pi, if_neg (by omega), zi_pi, if_neg (by omega)]; exact t6, by rw [zi_pi, if_neg (by omega), zi_pi, if_pos ⟨rfl, rfl⟩]⟩, ⟨u1, u2, u3, u4, u5⟩, fun i hi => w1 i (by omega), w2⟩
    have all2 : ∀ i, i < 6 * m → zj h2 0 ac i = L i := by rw [e2, e1]; exact w1
    have nz2 := T2.nz
    have T2' := T2
    subst e4
    obtain ⟨⟨y1, y2, y3, y4, y5, y6, y7⟩, ⟨x1, x2, x3, x4, x5⟩, s1, s2⟩ := T2
    refine sp_book z R2.2.2.1 (Nat.le_refl _) (Nat.le_refl _) fun A4 E4 h7 fr7 R4 => ?_
    obtain ⟨c1, c2, c3, c4⟩ := fr7 cb (by rw [y1]; decide)
    have c7 : zt h7 cb = 1 := c1.trans y1
    have m7 : zt h7 cb ∈ [1] := by rw [c7]; decide
    refine ⟨m7, fun h8 e8 => ⟨by rw [e8]; exact m7, by rw [e8]; exact m7, by rw [e8]; exact m7, by rw [e8]; exact c7, zSum zCC 0 (m - 1), zSum zCS 0 (m - 1), by omega, by omega, ?_⟩⟩
    -- the new book, told as from h8 on
    have f102 : zr h8 102 cb = some a3 := by rw [e8, zr_pr, if_pos ⟨rfl, rfl⟩]
    have f103 : zr h8 103 cb = some ac := by rw [e8, zr_pr, if_neg (by omega), (c3 103).2]; exact y3
    have f104 : zi h8 104 cb = nI (m - 1) := by rw [e8, zi_pr, (c3 104).1]; exact y4
    rw [f102, f103, f104]
    have nz7 : ∀ a, zF0 cb ac tp a → zt h7 a ≠ 0 := fun a ha => by rw [(fr7 a (nz2 a ha)).1]; exact nz2 a ha
    have R8 : rcAll G (zF0 cb ac tp) h8 A4 E4 h8 s0 cb a3 := by
      rw [e8]
      exact rc_tp zTp.r (rc_base (rc_sub R4 fun a ha => nz2 a ha))
    have T8 : rcTop cb ac tp a3 (m - 1) t (k + 1) L P h8 := by
      have T7 := T2'.sm (by omega) (by omega) fun a ha => fr7.m a (nz2 a ha)
      obtain ⟨⟨z1, z2, z3, z4, z5, z6, z7⟩, zu, zw1, zw2⟩ := T7
      exact ⟨⟨by rw [e8]; exact z1, f102, f103, f104, by rw [e8, zr_pr, if_neg (by omega)]; exact z5, by rw [e8]; exact z6, by rw [e8]; exact z7⟩, by rw [e8]; exact zu, by rw [e8]; exact zw1, by rw [e8]; exact zw2⟩
    have ac7 : ∀ i, i < 6 * m → zj h8 0 ac i = L i := fun i hi => by
      rw [e8, zj_pr, ((fr7 ac (by rw [x1]; decide)).2.2.2 0 i).1]; exact all2 i hi
    have T8' := T8
    obtain ⟨⟨z1, z2, z3, z4, z5, z6, z7⟩, ⟨q1, q2, q3, q4, q5⟩, r1, r2⟩ := T8
    refine sp_first S R8 (P := L) (arr := ac) (n := m - 1) (Or.inr (Or.inl rfl)) q1 q2 (fun i hi => ac7 i (by omega)) (by omega) (Nat.le_refl _) (Nat.le_refl _) (fun gd A' E' h12 R12 => ?_) (fun i hi gd hb => absurd hb (g i (by omega)))
    have T12 := T8'.sm (by omega) (by omega) fun a ha => (R12.2.2.2.2.2.2.2.2.2 a ha).2
    have ac12 : zj h12 0 ac (6 * (m - 1)) = L (6 * (m - 1)) := by
      rw [((R12.2.2.2.2.2.2.2.2.2 ac (Or.inr (Or.inl rfl))).2.2.2.2 0 _ (by rw [q2]; omega)).1]; exact ac7 _ (by omega)
    have X12 : rcX G cb ac tp (m - 1) t (k + 1) L P h12 := ⟨a3, A', E', T12, rc_base R12, g.le (by omega)⟩
    obtain ⟨⟨n1, n2, n3, n4, n5, n6, n7⟩, ⟨o1, o2, o3, o4, o5⟩, p1, p2⟩ := T12
    have m12 : zt h12 cb ∈ [1] := by rw [n1]; decide
    have m6 : 6 * nI (m - 1) = nI (6 * (m - 1)) := by
      show nI 6 * nI (m - 1) = _
      rw [pk_mul]
    refine ⟨m12, m12, ac, n3, o1, ?_⟩
    rw [n4, m6, nI_clamp (by omega), ac12, o2]
    exact ⟨nI_in (by omega) (by omega), hQ1 m0 h12 X12⟩
  · rw [t7] at z
    exact absurd ((nI_eq (b := 60) (by omega) (by omega)).mp z) (by omega)
  · rw [t4] at z
    exact hQ0 ((nI_eq (b := 0) (by omega) (by omega)).mp z)
theorem sp_feed (X : rcX G cb ac tp m t k L P h) (hm : m ≤ 24) (ht : t < 24) {Q : Int32 → ZH → Prop} {bc bs : Nat} {v1 v2 v3 v4 v5 v6 : Int32} (hc : 1 ≤ bc) (hs : 6 ≤ bs)
    (hQ : ∀ h', rcX G cb ac tp m (t + 1) k L (zRow6 P t v1 v2 v3 v4 v5 v6) h' → Q (nI (t + 1)) h') : fc_X1_feed G cb Q h bc bs v1 v2 v3 v4 v5 v6 := by
  obtain ⟨b, A, E, T, R, g⟩ := X
  obtain ⟨⟨y1, y2, y3, y4, y5, y6, y7⟩, ⟨x1, x2, x3, x4, x5⟩, s1, s2⟩ := T
  have m1 : zt h cb ∈ [1] := by rw [y1]; decide
  refine ⟨m1, fun _ => ⟨m1, m1, 1, 6, hc, hs, ?_⟩, fun z => ?_⟩
  · rw [y5, y6]
    refine sp_write (cb := cb) x3 x4 (by omega) (Nat.le_refl _) (Nat.le_refl _) fun h8 h10 fr8 tp10 fl lo row oth => ?_
    have ncb : zt h cb ≠ 0 := by rw [y1]; decide
    have ntp : zt h tp ≠ 0 := by rw [x3]; decide
    have nac : zt h ac ≠ 0 := by rw [x1]; decide
    have R10 := rc_tp tp10 (rc_base (rc_fr R fr8))
    have cI : ∀ f, zi h10 f cb = zi h f cb := fun f => (fl cb ncb f).1.trans ((fr8 cb ncb).2.2.1 f).1
    have cR : ∀ f, zr h10 f cb = zr h f cb := fun f => (fl cb ncb f).2.trans ((fr8 cb ncb).2.2.1 f).2
    have c10 : zt h10 cb = 1 := (tp10.1 cb).trans ((fr8 cb ncb).1.trans y1)
    have m10 : zt h10 cb ∈ [1] := by rw [c10]; decide
    refine ⟨m10, m10, fun h11 e11 => ?_⟩
    rw [cI, y6, nI_1] at e11
    have v106 : zi h11 106 cb = nI (t + 1) := by rw [e11, zi_pi, if_pos ⟨rfl, rfl⟩]
    refine ⟨by rw [e11]; exact m10, ?_⟩
    rw [v106]
    refine hQ h11 ⟨b, A, E, ⟨⟨by rw [e11]; exact c10, by rw [e11, zr_pi, cR]; exact y2, by rw [e11, zr_pi, cR]; exact y3, by rw [e11, zi_pi, if_neg (by omega), cI]; exact y4, by rw [e11, zr_pi, cR]; exact y5, v106, by rw [e11, zi_pi, if_neg (by omega), cI]; exact y7⟩, ⟨by rw [e11, zt_pi, tp10.1, (fr8 ac nac).1]; exact x1, by rw [e11, zl_pi, tp10.2.1, (fr8 ac nac).2.1]; exact x2, by rw [e11, zt_pi, tp10.1, (fr8 tp ntp).1]; exact x3, by rw [e11, zl_pi, tp10.2.1, (fr8 tp ntp).2.1]; exact x4, x5⟩, fun i hi => ?_, fun i hi => ?_⟩, by rw [e11]; exact rc_tp (zTp.i (by omega)) R10, g⟩
    · rw [e11, zj_pi, oth ac i nac x5, ((fr8 ac nac).2.2.2 0 i).1]; exact s1 i hi
    · rw [e11, zj_pi]
      by_cases him : i < 6 * t
      · rw [zRow6_lo him, lo i him]; exact s2 i him
      · obtain ⟨r1, r2, r3, r4, r5, r6⟩ := row
        unfold zRow6
        rw [if_neg him]
        have : i = 6 * t ∨ i = 6 * t + 1 ∨ i = 6 * t + 2 ∨ i = 6 * t + 3 ∨ i = 6 * t + 4 ∨ i = 6 * t + 5 := by omega
        rcases this with q | q | q | q | q | q <;> subst q
        · rw [if_pos rfl]; exact r1
        · rw [if_neg (by omega), if_pos rfl]; exact r2
        · rw [if_neg (by omega), if_neg (by omega), if_pos rfl]; exact r3
        · rw [if_neg (by omega), if_neg (by omega), if_neg (by omega), if_pos rfl]; exact r4
        · rw [if_neg (by omega), if_neg (by omega), if_neg (by omega), if_neg (by omega), if_pos rfl]; exact r5
        · rw [if_neg (by omega), if_neg (by omega), if_neg (by omega), if_neg (by omega), if_neg (by omega)]; exact r6
  · rw [y6] at z
    exact absurd ((nI_eq (b := 400) (by omega) (by omega)).mp z) (by omega)
/-- the look 'act' -/
def sActAt (L : Nat → Int32) (m : Nat) (i k : Int32) : Int32 := if ¬ i < 0 ∧ i < nI m ∧ ¬ k < 0 ∧ k ≤ 5 then L (6 * i.toNatClampNeg + k.toNatClampNeg) else 0
theorem sp_act (X : rcX G cb ac tp m t k L P h) (hm : m ≤ 24) {Q : Int32 → Prop} {i j : Int32} (hQ : Q (sActAt L m i j)) : fc_X1_act G cb Q h i j := by
  obtain ⟨b, A, E, T, R, g⟩ := X
  obtain ⟨⟨y1, y2, y3, y4, y5, y6, y7⟩, ⟨x1, x2, x3, x4, x5⟩, s1, s2⟩ := T
  have m1 : zt h cb ∈ [1] := by rw [y1]; decide
  unfold sActAt at hQ
  have bad : ¬ (¬ i < 0 ∧ i < nI m ∧ ¬ j < 0 ∧ j ≤ 5) → fc_X1_act_21 G cb Q h := fun hn => by
    rw [if_neg hn] at hQ; exact hQ
  refine ⟨fun w => bad fun q => q.1 w, fun w => ⟨m1, fun w2 => bad fun q => ?_, fun w2 => ⟨fun w3 => bad fun q => q.2.2.1 w3, fun w3 => ⟨fun w4 => ⟨m1, ac, y3, x1, ?_⟩, fun w4 => bad fun q => w4 q.2.2.2⟩⟩⟩⟩
  · rw [y4] at w2
    exact absurd q.2.1 (Int32.not_lt.mpr w2)
  · rw [y4] at w2
    have lt := Int32.not_le.mp w2
    rw [if_pos ⟨w, lt, w3, w4⟩] at hQ
    obtain ⟨x, hx, e⟩ := nI_of w
    obtain ⟨y, hy, e'⟩ := nI_of w3
    subst e; subst e'
    have hx' : x < m := (nI_ltI hx (by omega)).mp lt
    have hy' : y ≤ 5 := (nI_leI (b := 5) hy (by omega)).mp w4
    rw [nI_clamp hx, nI_clamp hy] at hQ
    have e6 : 6 * nI x + nI y = nI (6 * x + y) := by
      show nI 6 * nI x + nI y = _
      rw [pk_mul, nI_add]
    rw [e6, nI_clamp (by omega), x2, s1 _ (by omega)]
    exact ⟨nI_in (by omega) (by omega), hQ⟩
end ZTY
