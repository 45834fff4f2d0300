/-! METHODS of the component on the picture of a book: the act 'turn'. -/
set_option maxRecDepth 100000
section ZTN
variable {G : Nat × Nat × Nat} {F : Nat → Prop} {h0 h h' : ZH} {A A' : ZA} {E E' : Nat → Nat} {σ σ' : ZS} {cb b : Nat} {C : Nat → List Nat}
/-- the day on which something comes to pass at a grave -/
def sDay (σ : ZS) (g : Nat) : Int32 := if sa σ 606 g = 2 ∧ ¬ sa σ 608 g ≤ sa σ 610 g then sa σ 610 g + 1 else sa σ 608 g + 1
/-- what comes on new days at one grave -/
def sTurnG (today : Int32) (g : Nat) : Nat → ZS → ZS
  | 0, σ => σ
  | n + 1, σ => if sa σ 606 g = 1 ∨ sa σ 606 g = 2 then
      if today < sDay σ g then σ
      else if sa σ 608 g < sDay σ g ∨ sa σ 609 g = -1 then sFalls σ g
      else sTurnG today g n (sPass σ g (sDay σ g) (sa σ 612 g + 1).toNatClampNeg)
    else σ
/-- what 'turn' wants of a grave -/
def sTG (σ : ZS) (g : Nat) : Prop := (sa σ 606 g = 1 → sa σ 609 g = -1) ∧ (sa σ 606 g = 2 → ∃ k, sa σ 612 g = nI k ∧ k ≤ 40 ∧ (¬ sa σ 609 g = -1 → k < (sl σ 0 g).length)) ∧ sOk (sn σ 2) (sa σ 609 g) ∧ (∀ p ∈ sl σ 0 g, p < sn σ 2) ∧ (sl σ 0 g).length ≤ 40
theorem sNext_ge {l : List Nat} : ∀ n k, k ≤ sNext σ l n k := by
  intro n
  induction n with
  | zero => intro k; exact Nat.le_refl _
  | succ n ih =>
    intro k
    unfold sNext
    split
    · exact Nat.le_trans (Nat.le_succ k) (ih (k + 1))
    · exact Nat.le_refl _
theorem sNext_le {l : List Nat} : ∀ n k, k ≤ l.length → sNext σ l n k ≤ l.length := by
  intro n
  induction n with
  | zero => intro k h; exact h
  | succ n ih =>
    intro k h
    unfold sNext
    split
    · exact ih (k + 1) (by omega)
    · exact h
theorem sAtNo_no {l : List Nat} {m : Nat} (hl : ∀ p ∈ l, p < 2 ^ 31) : sAtNo l m = -1 ↔ ¬ m < l.length := by
  unfold sAtNo
  by_cases q : m < l.length
  · rw [if_pos q]
    have : l.getD m 0 < 2 ^ 31 := hl _ (by simp [q])
    refine ⟨fun w => absurd (w ▸ (by decide : (-1 : Int32) < 0)) (nI_pos this), fun w => absurd q w⟩
  · rw [if_neg q]; exact ⟨fun _ => q, fun _ => rfl⟩
theorem sPass_606 {g k : Nat} {d : Int32} : sa (sPass σ g d k) 606 g = sa σ 606 g := by unfold sPass; simp [sa_au]
theorem sPass_608 {g k : Nat} {d : Int32} : sa (sPass σ g d k) 608 g = sa σ 608 g := by unfold sPass; simp [sa_au]
theorem sPass_609 {g k : Nat} {d : Int32} : sa (sPass σ g d k) 609 g = sAtNo (sl σ 0 g) (sNext σ (sl σ 0 g) 64 k) := by unfold sPass; simp [sa_au]
theorem sPass_612 {g k : Nat} {d : Int32} : sa (sPass σ g d k) 612 g = nI (sNext σ (sl σ 0 g) 64 k) := by unfold sPass; simp [sa_au]
theorem sPass_sl {g k : Nat} {d : Int32} : sl (sPass σ g d k) = sl σ := rfl
theorem sPass_sn {g k : Nat} {d : Int32} : sn (sPass σ g d k) = sn σ := rfl
theorem sTG_pass {g k : Nat} {d : Int32} (T : sTG σ g) (h2 : sa σ 606 g = 2) (hk : k ≤ (sl σ 0 g).length) (h40 : sn σ 2 ≤ 40) : sTG (sPass σ g d k) g := by
  obtain ⟨t1, t2, t3, t4, t5⟩ := T
  refine ⟨fun w => ?_, fun _ => ⟨sNext σ (sl σ 0 g) 64 k, sPass_612, ?_, fun w => ?_⟩, ?_, t4, t5⟩
  · rw [sPass_606, h2] at w; exact absurd w (by decide)
  · have := sNext_le (σ := σ) (l := sl σ 0 g) 64 k hk; omega
  · rw [sPass_609, sAtNo_no (fun p hp => by have := t4 p hp; omega)] at w
    exact Classical.byContradiction w
  · rw [sPass_609, sPass_sn]
    unfold sAtNo
    by_cases q : sNext σ (sl σ 0 g) 64 k < (sl σ 0 g).length
    · rw [if_pos q]; exact Or.inr ⟨_, t4 _ (by simp [q]), rfl⟩
    · rw [if_neg q]; exact Or.inl rfl
theorem sp_turnG {Q : ZH → Prop} {g : Nat} {today : Int32} (hg : g < sn σ 1) (h40 : sn σ 2 ≤ 40) : ∀ (n : Nat) (σ1 : ZS) (E : Nat → Nat) (h : ZH), sn σ1 = sn σ → sTG σ1 g → (sa σ1 606 g = 2 → (sl σ1 0 g).length + 2 ≤ (sa σ1 612 g).toNatClampNeg + n) → 1 ≤ n → rcAll G F h0 A E h σ1 cb b →
    (∀ E' h', rcAll G F h0 A E' h' (sTurnG today g n σ1) cb b → Q h') → fc_X9_turn_2 G (A 1 g) Q (n + 1) h today 1 := by
  intro n
  induction n with
  | zero => intro σ1 E h hsn T hm h1; omega
  | succ n ih =>
    intro σ1 E h hsn T hm h1 R hQ
    have hg1 : g < sn σ1 1 := by rw [hsn]; exact hg
    have h401 : sn σ1 2 ≤ 40 := by rw [hsn]; exact h40
    have hm' := rc_gt R hg1
    obtain ⟨g1, g2, g3, -⟩ := R.2.2.2.2.1 g hg1
    have e606 : zi h 606 (A 1 g) = sa σ1 606 g := g2 606 (by simp [rcGi])
    have e608 : zi h 608 (A 1 g) = sa σ1 608 g := g2 608 (by simp [rcGi])
    have e610 : zi h 610 (A 1 g) = sa σ1 610 g := g2 610 (by simp [rcGi])
    have e609 : zr h 609 (A 1 g) = none ↔ sa σ1 609 g = -1 := by rw [g3 609 (by simp [rcGr])]; exact rfx_no (by omega) T.2.2.1
    have T0 := T
    obtain ⟨t1, t2, t3, t4, t5⟩ := T
    have base : sTurnG today g (n + 1) σ1 = if sa σ1 606 g = 1 ∨ sa σ1 606 g = 2 then
      if today < sDay σ1 g then σ1
      else if sa σ1 608 g < sDay σ1 g ∨ sa σ1 609 g = -1 then sFalls σ1 g
      else sTurnG today g n (sPass σ1 g (sDay σ1 g) (sa σ1 612 g + 1).toNatClampNeg)
    else σ1 := rfl
    rw [base] at hQ
    have fall : (∀ E' h', rcAll G F h0 A E' h' (sFalls σ1 g) cb b → Q h') → fc_X9_turn_90 G (A 1 g) Q (fun h9 y0 y1 => fc_X9_turn_2 G (A 1 g) Q (n + 1) h9 y0 y1) h today 1 := fun hq => sp_falls R hg1 fun E' h' R' => by
      have m2 := rc_gt R' (show g < sn (sFalls σ1 g) 1 from hg1)
      have z : zi h' 606 (A 1 g) = 3 := by
        rw [(R'.2.2.2.2.1 g hg1).2.1 606 (by simp [rcGi])]
        unfold sFalls; simp [sa_au, sa_lu]
      exact ⟨fun q => absurd q (by decide), fun _ => ⟨m2, fun q => by rw [z] at q; exact absurd q (by decide), fun _ => ⟨m2, fun _ => hq E' h' R', fun q => by rw [z] at q; exact absurd q (by decide)⟩⟩⟩
    have go : (sa σ1 606 g = 1 ∨ sa σ1 606 g = 2) → fc_X9_turn_56 G (A 1 g) Q (fun h9 y0 y1 => fc_X9_turn_2 G (A 1 g) Q (n + 1) h9 y0 y1) h today (sDay σ1 g) := by
      intro hs
      rw [if_pos hs] at hQ
      refine ⟨fun w => ⟨fun q => absurd rfl q, fun _ => ⟨fun _ => ?_, fun q => absurd rfl q⟩⟩, fun w => ⟨fun _ => ⟨hm', fun q => ?_, fun q => ⟨hm', fun q2 => ?_, fun b1 q2 => ?_⟩⟩, fun q => absurd q (by decide)⟩⟩
      · rw [if_pos w] at hQ
        exact hQ E h R
      · rw [e608] at q
        rw [if_neg w, if_pos (Or.inl q)] at hQ
        exact fall hQ
      · rw [if_neg w, if_pos (Or.inr (e609.mp q2))] at hQ
        exact fall hQ
      · rw [e608] at q
        have n9 : ¬ sa σ1 609 g = -1 := fun z => by rw [e609.mpr z] at q2; cases q2
        have h2 : sa σ1 606 g = 2 := hs.elim (fun z => absurd (t1 z) n9) id
        obtain ⟨k, k1, k2, k3⟩ := t2 h2
        have k3 := k3 n9
        rw [if_neg w, if_neg (fun z => z.elim q n9)] at hQ
        have kc : (nI k).toNatClampNeg = k := nI_clamp (by omega)
        have kc1 : (nI (k + 1)).toNatClampNeg = k + 1 := nI_clamp (by omega)
        rw [k1, nI_1, kc1] at hQ
        have hm2 := hm h2
        rw [k1, kc] at hm2
        refine sp_pass R hg1 (by rw [k1, nI_1]) (by omega) t4 fun h' R' => ?_
        refine ih _ E h' (by rw [sPass_sn]; exact hsn) (sTG_pass T0 h2 (by omega) h401) (fun _ => ?_) (by omega) R' hQ
        rw [sPass_612, sPass_sl]
        have b1 := sNext_ge (σ := σ1) (l := sl σ1 0 g) 64 (k + 1)
        have b2 := sNext_le (σ := σ1) (l := sl σ1 0 g) 64 (k + 1) (by omega)
        rw [nI_clamp (by omega)]
        omega
    have go22 : (sa σ1 606 g = 1 ∨ sa σ1 606 g = 2) → fc_X9_turn_22 G (A 1 g) Q (fun h9 y0 y1 => fc_X9_turn_2 G (A 1 g) Q (n + 1) h9 y0 y1) h today := by
      intro hs
      have G5 := go hs
      unfold sDay at G5
      refine ⟨hm', fun w => ⟨hm', ?_⟩, fun w => ⟨hm', hm', fun w2 => ⟨hm', ?_⟩, fun w2 => ⟨hm', ?_⟩⟩⟩
      · rw [e606] at w
        rw [if_neg (fun z => w z.1)] at G5
        rw [e608]; exact G5
      · rw [e608, e610] at w2
        rw [if_neg (fun z => z.2 w2)] at G5
        rw [e608]; exact G5
      · rw [e606] at w
        rw [e608, e610] at w2
        rw [if_pos ⟨w, w2⟩] at G5
        rw [e610]; exact G5
    refine ⟨fun w => absurd w (by decide), fun _ => ⟨hm', fun w => go22 (Or.inl (e606 ▸ w)), fun w => ⟨hm', fun w2 => ?_, fun w2 => go22 (Or.inr (e606 ▸ w2))⟩⟩⟩
    rw [e606] at w w2
    rw [if_neg (fun z => z.elim w w2)] at hQ
    exact hQ E h R
/-- one grave's turn leaves all else -/
theorem sTurnG_el {today : Int32} {g : Nat} : ∀ (n : Nat) (σ : ZS), (∀ k i, ¬ (600 ≤ k ∧ k < 700 ∧ i = g) → sa (sTurnG today g n σ) k i = sa σ k i) ∧ (∀ k i, ¬ (k = 0 ∧ i = g) → sl (sTurnG today g n σ) k i = sl σ k i) ∧ sn (sTurnG today g n σ) = sn σ ∧ sy (sTurnG today g n σ) = sy σ := by
  intro n
  induction n with
  | zero => intro σ; exact ⟨fun _ _ _ => rfl, fun _ _ _ => rfl, rfl, rfl⟩
  | succ n ih =>
    intro σ
    unfold sTurnG
    split
    · split
      · exact ⟨fun _ _ _ => rfl, fun _ _ _ => rfl, rfl, rfl⟩
      · split
        · refine ⟨fun k i q => ?_, fun k i q => ?_, rfl, rfl⟩
          · unfold sFalls
            rw [sa_au, if_neg (by omega), sa_au, if_neg (by omega), sa_lu, sa_au, if_neg (by omega), sa_au, if_neg (by omega), sa_au, if_neg (by omega)]
          · unfold sFalls
            rw [sl_au, sl_au, sl_lu, if_neg q]; rfl
        · obtain ⟨i1, i2, i3, i4⟩ := ih (sPass σ g (sDay σ g) (sa σ 612 g + 1).toNatClampNeg)
          refine ⟨fun k i q => ?_, fun k i q => i2 k i q, i3, i4⟩
          rw [i1 k i q]
          unfold sPass
          rw [sa_au, if_neg (by omega), sa_au, if_neg (by omega), sa_au, if_neg (by omega)]
    · exact ⟨fun _ _ _ => rfl, fun _ _ _ => rfl, rfl, rfl⟩
def sTurnAll (σ : ZS) (today : Int32) : Nat → ZS
  | 0 => σ
  | i + 1 => sTurnG today i 50 (sTurnAll σ today i)
theorem sTurnAll_el {today : Int32} : ∀ (n : Nat), (∀ k i, ¬ (600 ≤ k ∧ k < 700 ∧ i < n) → sa (sTurnAll σ today n) k i = sa σ k i) ∧ (∀ k i, ¬ (k = 0 ∧ i < n) → sl (sTurnAll σ today n) k i = sl σ k i) ∧ sn (sTurnAll σ today n) = sn σ ∧ sy (sTurnAll σ today n) = sy σ := by
  intro n
  induction n with
  | zero => exact ⟨fun _ _ _ => rfl, fun _ _ _ => rfl, rfl, rfl⟩
  | succ n ih =>
    obtain ⟨i1, i2, i3, i4⟩ := ih
    obtain ⟨j1, j2, j3, j4⟩ := sTurnG_el (today := today) (g := n) 50 (sTurnAll σ today n)
    refine ⟨fun k i q => ?_, fun k i q => ?_, j3.trans i3, j4.trans i4⟩
    · exact (j1 k i (by omega)).trans (i1 k i (by omega))
    · exact (j2 k i (by omega)).trans (i2 k i (by omega))
theorem sTG_ext {σ σ' : ZS} {g : Nat} (T : sTG σ g) (hn : sn σ' = sn σ) (ha : ∀ k, 600 ≤ k → sa σ' k g = sa σ k g) (hl : sl σ' 0 g = sl σ 0 g) : sTG σ' g := by
  unfold sTG at *
  rw [hn, ha 606 (by omega), ha 609 (by omega), ha 612 (by omega), hl]; exact T
/-- the act 'turn' -/
def sTurn (σ : ZS) (n : Int32) : Int32 × ZS :=
  if ¬ n < 1 ∧ ¬ 40000 < n ∧ ¬ 200000 < sa σ 203 0 + n then (sa σ 203 0 + n, sTurnAll (sau σ 203 0 (sa σ 203 0 + n)) (sa σ 203 0 + n) (sn σ 1)) else (-1, σ)
theorem sp_gget (R : rcAll G F h0 A E h σ cb b) {Q : Option Nat → Prop} {i : Nat} (hi : i < sn σ 1) (hQ : Q (some (A 1 i))) : fc_J2_get G (A 5 1) Q h (nI i) := by
  have L0 := rc_ls R (j := 1) (Or.inl (by omega))
  have hlen : (rcCon A σ 1).length = sn σ 1 := by rw [rc_con1]; simp
  refine zl_get L0 (by omega) ?_
  have e : (rcCon A σ 1)[i]? = some (A 1 i) := by rw [rc_con1]; simp [hi]
  rw [e]; exact hQ
theorem sp_turn (R : rcAll G F h0 A E h σ cb b) (h40 : sn σ 2 ≤ 40) (T : ∀ g, g < sn σ 1 → sTG σ g) (hT : ∃ t, sa σ 203 0 = nI t ∧ t ≤ 200000) {Q : Int32 → ZH → Prop} {XE : String → Nat → ZH → Prop} {bc bs : Nat} {n : Int32} (hc : 1 ≤ bc) (hs : 7 ≤ bs)
    (hX : ∀ v', sTurn σ n = (v', σ) → v' < 0 → zXr XE h v')
    (hQ : ∀ r σ' A' E' h', sTurn σ n = (r, σ') → ¬ r < 0 → rcAll G F h0 A' E' h' σ' cb b → Q r h') : fc_X5_turn G b Q XE h bc bs n := by
  have hb4 : zt h b ∈ [4] := by rw [R.1.1]; decide
  have h64 := rc_sz1 R
  have e203 : zi h 203 b = sa σ 203 0 := R.1.2.1
  have bad : ¬ (¬ n < 1 ∧ ¬ 40000 < n ∧ ¬ 200000 < sa σ 203 0 + n) → fc_X5_turn_28 G b Q XE h bc bs n := fun hn => ⟨bc, bs, Nat.le_refl _, Nat.le_refl _, sp_no (by omega) (by omega) (hX (-1) (by unfold sTurn; rw [if_neg hn]) (by decide))⟩
  refine ⟨fun w => bad fun q => q.1 w, fun w1 => ⟨fun w => bad fun q => q.2.1 w, fun w2 => ⟨hb4, fun w => bad fun q => ?_, fun w3 => ?_⟩⟩⟩
  · rw [e203] at w; exact q.2.2 w
  rw [e203] at w3
  have base : sTurn σ n = (sa σ 203 0 + n, sTurnAll (sau σ 203 0 (sa σ 203 0 + n)) (sa σ 203 0 + n) (sn σ 1)) := by unfold sTurn; rw [if_pos ⟨w1, w2, w3⟩]
  have nn : ¬ sa σ 203 0 + n < 0 := by
    obtain ⟨t, t1, t2⟩ := hT
    have n0 : ¬ n < 0 := fun q => w1 (Int32.lt_trans q (by decide))
    obtain ⟨j, hj, e⟩ := nI_of n0
    have : j ≤ 40000 := Classical.byContradiction fun q => w2 (by rw [e]; exact nI_lt (a := 40000) (by omega) (by omega))
    rw [t1, e, nI_add]
    exact nI_pos (by omega)
  refine ⟨0, 0, Nat.zero_le _, Nat.zero_le _, sp_ok ⟨hb4, hb4, fun h5 e5 => ?_⟩⟩
  rw [e203] at e5
  subst e5
  have R1 : rcAll G F h0 A E _ (sau σ 203 0 (sa σ 203 0 + n)) cb b := rc_Bi R (f := 203) (x := sa σ 203 0 + n) (by simp)
  have loop : ∀ (m i : Nat) (E : Nat → Nat) (hh : ZH), i ≤ sn σ 1 → sn σ 1 + 1 ≤ i + m → rcAll G F h0 A E hh (sTurnAll (sau σ 203 0 (sa σ 203 0 + n)) (sa σ 203 0 + n) i) cb b → fc_X5_turn_45 G b Q XE m hh (bc - 0) (bs - 0) (nI i) := by
    intro m
    induction m with
    | zero => intro i E hh h1 h2; omega
    | succ m ih =>
      intro i E hh h1 h2 Ri
      obtain ⟨u1, u2, u3, u4⟩ := sTurnAll_el (σ := sau σ 203 0 (sa σ 203 0 + n)) (today := sa σ 203 0 + n) i
      have sni : sn (sTurnAll (sau σ 203 0 (sa σ 203 0 + n)) (sa σ 203 0 + n) i) = sn σ := u3
      have hbi : zt hh b ∈ [4] := by rw [Ri.1.1]; decide
      have L1 := rc_ls Ri (j := 1) (Or.inl (by omega))
      have hlen : (rcCon A (sTurnAll (sau σ 203 0 (sa σ 203 0 + n)) (sa σ 203 0 + n) i) 1).length = sn σ 1 := by rw [rc_con1, sni]; simp
      have t203 : zi hh 203 b = sa σ 203 0 + n := by
        rw [Ri.1.2.1, u1 203 0 (by omega), sa_au, if_pos ⟨rfl, rfl⟩]
      refine ⟨hbi, A 5 1, Ri.1.2.2.2.2.1, L1.1, zl_size L1 ⟨fun w => ⟨hbi, ?_⟩, fun w => ⟨hbi, L1.1, ?_⟩⟩⟩
      · rw [hlen] at w
        have hi : i = sn σ 1 := by have := (nI_leI (by omega) (by omega)).mp w; omega
        rw [t203]
        exact hQ _ _ A E hh (by rw [base, ← hi]) nn Ri
      · rw [hlen] at w
        have hi : i < sn σ 1 := Classical.byContradiction fun q => w (nI_le (by omega) (by omega))
        have hi' : i < sn (sTurnAll (sau σ 203 0 (sa σ 203 0 + n)) (sa σ 203 0 + n) i) 1 := by rw [sni]; exact hi
        refine sp_gget Ri hi' ⟨fun b9 e9 => by cases e9; exact rc_gt Ri hi', hbi, _, rfl, ?_⟩
        rw [t203]
        have Tg : sTG (sTurnAll (sau σ 203 0 (sa σ 203 0 + n)) (sa σ 203 0 + n) i) i := sTG_ext (T i hi) sni (fun k hk => by rw [u1 k i (by omega), sa_au, if_neg (by omega)]) (by rw [u2 0 i (by omega)]; rfl)
        refine ⟨rc_gt Ri hi', fun _ => ⟨51, sp_turnG (h40 := by rw [sni]; exact h40) hi' 50 _ E hh rfl Tg ?_ (by omega) Ri fun E' h' R' x6 e6 => ?_⟩⟩
        · intro _
          have := Tg.2.2.2.2
          omega
        · rw [nI_1] at e6
          subst e6
          exact ih (i + 1) E' h' (by omega) (by omega) R'
  exact ⟨sn σ 1 + 1, loop (sn σ 1 + 1) 0 E _ (by omega) (by omega) R1⟩
end ZTN
