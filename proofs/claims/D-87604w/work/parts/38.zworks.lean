/-! THE COMPONENT's acts by numbers. -/
set_option maxRecDepth 100000
section ZWO
variable {G : Nat × Nat × Nat} {F : Nat → Prop} {h0 h h' : ZH} {A A' : ZA} {E E' : Nat → Nat} {σ σ' : ZS} {cb b n : Nat}
/-- what must be nought -/
def sZ (v1 v3 v4 v5 v6 : Int32) : Int32 :=
  if v1 < 1 then 1 else if ¬ v1 ≤ 18 then 1 else if v1 = 5 then 0 else if v1 = 4 then v6 else if v1 = 15 then v6 else if v1 = 16 then v6
  else if v1 = 2 then v5 ||| v6 else if v1 = 7 then v5 ||| v6 else if v1 = 9 then v5 ||| v6 else if v1 = 11 then v5 ||| v6
  else if v1 = 3 then (v4 ||| v5) ||| v6 else if v1 = 8 then (v4 ||| v5) ||| v6 else if v1 = 10 then (v4 ||| v5) ||| v6 else ((v3 ||| v4) ||| v5) ||| v6
def sAct (σ : ZS) (v1 v2 v3 v4 v5 v6 : Int32) : Int32 × ZS :=
  if v1 = 1 then sField σ v2 else if v1 = 2 then sNewRow σ v2 v3 v4 else if v1 = 3 then sTear σ v2 v3 else if v1 = 4 then sPlace σ v2 v3 v4 v5 else if v1 = 5 then sNewGrave σ v2 v3 v4 v5 v6
  else if v1 = 6 then sNewPerson σ v2 else if v1 = 7 then sKin σ v2 v3 v4 else if v1 = 8 then sPaper σ v2 v3 else if v1 = 9 then sRight σ v2 v3 v4 else if v1 = 10 then sLonger σ v2 v3
  else if v1 = 11 then sAgree σ v2 v3 v4 else if v1 = 12 then sDies σ v2 else if v1 = 13 then sTakes σ v2 else if v1 = 14 then sRefuses σ v2 else if v1 = 15 then sBury σ v2 v3 v4 v5
  else if v1 = 16 then sMove σ v2 v3 v4 v5 else if v1 = 17 then sClear σ v2 else sTurn σ v2
def sWorks (σ : ZS) (v1 v2 v3 v4 v5 v6 : Int32) : Int32 × ZS := if sZ v1 v3 v4 v5 v6 = 0 then sAct σ v1 v2 v3 v4 v5 v6 else (-1, σ)
/-- what an act behind n others may cost -/
def zCC (n : Nat) : Nat := 100 + 8 * n + n * n
def zCS (n : Nat) : Nat := 8000 + 262 * n + 64 * (n * n)
theorem zC_dies : ∀ n, n < 25 → ∀ g, g < 25 → ∀ p, p < 25 → g + p ≤ n → g * (8 + 4 * p) + 1 ≤ zCC n ∧ g * (262 + 256 * p) + 7 ≤ zCS n := by decide +kernel
theorem sPaper_no {x y : Int32} (e : (sPaper σ x y).1 = -1) : sPaper σ x y = (-1, σ) := by
  unfold sPaper at e ⊢
  by_cases q : (∃ i, i < sn σ 2 ∧ x = nI i) ∧ (∃ j, j < sn σ 2 ∧ y = nI j) ∧ ¬ x = y ∧ sa σ 702 x.toNatClampNeg = 0
  · rw [if_pos q] at e; exact absurd (show (0 : Int32) = -1 from e) (by decide)
  · rw [if_neg q]
theorem sKin_no {x r y : Int32} (e : (sKin σ x r y).1 = -1) : sKin σ x r y = (-1, σ) := by
  have z : ∀ t : ZS, ¬ ((0 : Int32), t).1 = -1 := fun t w => absurd (show (0 : Int32) = -1 from w) (by decide)
  unfold sKin at e ⊢
  by_cases q : (∃ i, i < sn σ 2 ∧ x = nI i) ∧ (∃ j, j < sn σ 2 ∧ y = nI j) ∧ ¬ x = y ∧ (r = 0 ∨ r = 1)
  · rw [if_pos q] at e ⊢
    by_cases r0 : r = 0
    · rw [if_pos r0] at e ⊢
      by_cases c1 : sa σ 704 x.toNatClampNeg = -1 ∧ sa σ 704 y.toNatClampNeg = -1
      · rw [if_pos c1] at e; exact absurd e (z _)
      · rw [if_neg c1]
    · rw [if_neg r0] at e ⊢
      by_cases c1 : ¬ sParent σ x.toNatClampNeg y.toNatClampNeg ∧ sa σ 701 x.toNatClampNeg < sa σ 701 y.toNatClampNeg ∧ (sa σ 705 y.toNatClampNeg = -1 ∨ sa σ 706 y.toNatClampNeg = -1)
      · rw [if_pos c1] at e
        by_cases c2 : sa σ 705 y.toNatClampNeg = -1
        · rw [if_pos c2] at e; exact absurd e (z _)
        · rw [if_neg c2] at e; exact absurd e (z _)
      · rw [if_neg c1]
  · rw [if_neg q]
theorem sPaper_ok {x y : Int32} (e : (sPaper σ x y).1 = 0) : sPaper σ x y = (0, (sPaper σ x y).2) := by rw [← e]
theorem sKin_ok {x r y : Int32} (e : (sKin σ x r y).1 = 0) : sKin σ x r y = (0, (sKin σ x r y).2) := by rw [← e]
theorem toInt_lit {v : Int32} {k : Int32} (h : v.toInt = k.toInt) : v = k := Int32.toInt_inj.mp h
theorem sp_works (R : rcAll G F h0 A E h σ cb b) (I : sInv n σ) {Q : Int32 → ZH → Prop} {XE : String → Nat → ZH → Prop} {bc bs : Nat} {v1 v2 v3 v4 v5 v6 : Int32} (hc : zCC n ≤ bc) (hs : zCS n ≤ bs)
    (hX : ∀ v', sWorks σ v1 v2 v3 v4 v5 v6 = (v', σ) → v' < 0 → zXr XE h v')
    (hQ : ∀ r σ' A' E' h', sWorks σ v1 v2 v3 v4 v5 v6 = (r, σ') → ¬ r < 0 → rcAll G F h0 A' E' h' σ' cb b → Q r h') : fc_X5_works G b Q XE h bc bs v1 v2 v3 v4 v5 v6 := by
  have W := I.ref
  have hle := I.le
  have hn24 := I.1.1
  have c100 : 100 ≤ zCC n := by unfold zCC; omega
  have s8000 : 8000 ≤ zCS n := by unfold zCS; omega
  have hd := zC_dies n (by omega) (sn σ 1) (by omega) (sn σ 2) (by omega) (by have := I.1.2.1; omega)
  have l36 : ∀ g, g < sn σ 1 → (sl σ 1 g).length ≤ 36 := fun g hg => by have := (I.2.2.2.1 g hg).2.2.1; omega
  have y36 : ∀ p, p < sn σ 2 → (sy σ p).length ≤ 36 := fun p hp => by have := (I.2.2.1 p hp).2.2.2.2.2.2.1.1; omega
  have bad : ¬ sZ v1 v3 v4 v5 v6 = 0 → fc_X5_works_127 G b Q XE h bc bs v1 v2 v3 v4 v5 v6 0 := fun z => ⟨bc, bs, Nat.le_refl _, Nat.le_refl _, sp_no (by omega) (by omega) (hX (-1) (by unfold sWorks; rw [if_neg z]) (by decide))⟩
  have good : sZ v1 v3 v4 v5 v6 = 0 → fc_X5_works_127 G b Q XE h bc bs v1 v2 v3 v4 v5 v6 1 := by
    intro z
    unfold sWorks at hX hQ
    rw [if_pos z] at hX hQ
    have lo : ¬ v1 < 1 := fun y => by unfold sZ at z; rw [if_pos y] at z; exact absurd z (by decide)
    have hi : v1 ≤ 18 := Classical.byContradiction fun y => by unfold sZ at z; rw [if_neg lo, if_pos y] at z; exact absurd z (by decide)
    refine ⟨0, 0, Nat.zero_le _, Nat.zero_le _, sp_ok ⟨fun w => ⟨R.1.1, bc, bs, Nat.le_refl _, Nat.le_refl _, ?_⟩, fun w => ⟨R.1.1, bc, bs, Nat.le_refl _, Nat.le_refl _, ?_⟩, fun w => ⟨R.1.1, bc, bs, Nat.le_refl _, Nat.le_refl _, ?_⟩, fun w => ⟨R.1.1, bc, bs, Nat.le_refl _, Nat.le_refl _, ?_⟩, fun w => ⟨R.1.1, bc, bs, Nat.le_refl _, Nat.le_refl _, ?_⟩, fun w => ⟨R.1.1, bc, bs, Nat.le_refl _, Nat.le_refl _, ?_⟩, fun w => ⟨R.1.1, bc, bs, Nat.le_refl _, Nat.le_refl _, ?_⟩, fun w => ⟨R.1.1, bc, bs, Nat.le_refl _, Nat.le_refl _, ?_⟩, fun w => ⟨R.1.1, bc, bs, Nat.le_refl _, Nat.le_refl _, ?_⟩, fun w => ⟨R.1.1, bc, bs, Nat.le_refl _, Nat.le_refl _, ?_⟩, fun w => ⟨R.1.1, bc, bs, Nat.le_refl _, Nat.le_refl _, ?_⟩, fun w => ⟨R.1.1, bc, bs, Nat.le_refl _, Nat.le_refl _, ?_⟩, fun w => ⟨R.1.1, bc, bs, Nat.le_refl _, Nat.le_refl _, ?_⟩, fun w => ⟨R.1.1, bc, bs, Nat.le_refl _, Nat.le_refl _, ?_⟩, fun w => ⟨R.1.1, bc, bs, Nat.le_refl _, Nat.le_refl _, ?_⟩, fun w => ⟨R.1.1, bc, bs, Nat.le_refl _, Nat.le_refl _, ?_⟩, fun w => ⟨R.1.1, bc, bs, Nat.le_refl _, Nat.le_refl _, ?_⟩, fun w => ⟨R.1.1, bc, bs, Nat.le_refl _, Nat.le_refl _, ?_⟩⟩⟩
    · have h0 : ¬ v1 < 0 := fun q => lo (Int32.lt_trans q (by decide))
      obtain ⟨j, hj, e⟩ := nI_of h0
      have j18 : j = 18 := by
        rw [e, nI_toInt hj] at w
        have : j ≤ 18 := by rw [e] at hi; exact (nI_leI (b := 18) hj (by omega)).mp hi
        have : 1 ≤ j := Classical.byContradiction fun q => lo (by rw [e]; exact nI_lt (b := 1) (by omega) (by omega))
        omega
      have e : v1 = 18 := by rw [e, j18]; rfl
      subst e
      exact sp_turn R (by omega) I.tg I.2.1 (by omega) (by omega) hX hQ
    · have e : v1 = 1 := toInt_lit w
      subst e
      exact sp_field R W (by omega) (by omega) hX hQ
    · have e : v1 = 2 := toInt_lit w
      subst e
      exact sp_newRow R W (by omega) (by omega) hX hQ
    · have e : v1 = 3 := toInt_lit w
      subst e
      exact sp_tear R W (by omega) (by omega) hX hQ
    · have e : v1 = 4 := toInt_lit w
      subst e
      exact sp_place R W (by omega) (by omega) hX hQ
    · have e : v1 = 5 := toInt_lit w
      subst e
      exact sp_newGrave R W (by omega) (by omega) hX hQ
    · have e : v1 = 6 := toInt_lit w
      subst e
      exact sp_newPerson R W (by omega) (by omega) hX hQ
    · have e : v1 = 7 := toInt_lit w
      subst e
      exact sp_kin R W.1 (by omega) (by omega) (fun y => hX (-1) (sKin_no y) (by decide)) (fun y h' R' => hQ 0 _ A E h' (sKin_ok y) (by decide) R')
    · have e : v1 = 8 := toInt_lit w
      subst e
      exact sp_paper R (by omega) (by omega) (fun y => hX (-1) (sPaper_no y) (by decide)) (fun y h' R' => hQ 0 _ A E h' (sPaper_ok y) (by decide) R')
    · have e : v1 = 9 := toInt_lit w
      subst e
      exact sp_right R (by omega) (by omega) (fun v y y2 => hX v y (by rcases y2 with q | q | q <;> rw [q] <;> decide)) (fun g hg => I.yr_n hg) (fun v σ' E' h' y nn R' => hQ v σ' A E' h' y nn R')
    · have e : v1 = 10 := toInt_lit w
      subst e
      exact sp_longer R (by omega) (by omega) (fun v y y2 => hX v y (by rcases y2 with q | q <;> rw [q] <;> decide)) (fun g hg => I.yr_n hg) (fun v σ' h' y nn R' => hQ v σ' A E h' y nn R')
    · have e : v1 = 11 := toInt_lit w
      subst e
      exact sp_agree R (by omega) (by omega) (fun v y y2 => hX v y (by rcases y2 with q | q <;> rw [q] <;> decide)) (fun σ' A' h' y R' => hQ 0 σ' A' E h' y (by decide) R')
    · have e : v1 = 12 := toInt_lit w
      subst e
      exact sp_dies R W I.tg (by omega) (by omega) hX hQ
    · have e : v1 = 13 := toInt_lit w
      subst e
      exact sp_takes R W.1 (by omega) (by omega) (fun v y y2 => hX v y (by rcases y2 with q | q <;> rw [q] <;> decide)) (fun σ' E' h' y R' => hQ 0 σ' A E' h' y (by decide) R')
    · have e : v1 = 14 := toInt_lit w
      subst e
      refine sp_refuses R W.1 (by omega) (by omega) (fun g hg h2 => ?_) (fun v y y2 => hX v y (by rcases y2 with q | q <;> rw [q] <;> decide)) (fun σ' h' y R' => hQ 0 σ' A E h' y (by decide) R')
      obtain ⟨t1, t2, t3, t4, t5⟩ := I.tg g hg
      obtain ⟨k, k1, k2, k3⟩ := t2 h2
      exact ⟨⟨k + 1, by omega, by rw [k1, nI_1]⟩, t4⟩
    · have e : v1 = 15 := toInt_lit w
      subst e
      exact sp_bury R W I.p700 I.held (fun g hg => ⟨by have := l36 g hg; omega, fun q hq => ((I.ly.1 g hg).2 q hq).1⟩) (fun p hp => by have := y36 p hp; omega) (fun g j hg hj => I.bury_nn hg hj) (by omega) (by omega) hX hQ
    · have e : v1 = 16 := toInt_lit w
      subst e
      exact sp_move R W I.p700 I.held I.ly (fun g j hg hj _ _ => I.move_nn hg hj) (by omega) (by omega) hX hQ
    · have e : v1 = 17 := toInt_lit w
      subst e
      exact sp_clear R W I.kinds I.ly I.nd I.set y36 l36 (by omega) (by omega) hX hQ
  have w115 : ∀ t0, t0 = sZ v1 v3 v4 v5 v6 → fc_X5_works_115 G b Q XE h bc bs v1 v2 v3 v4 v5 v6 t0 := fun t0 e => ⟨fun z => bad (e ▸ z), fun z => good (e ▸ z)⟩
  refine ⟨fun a1 => w115 1 ?_, fun a1 => ⟨fun a2 => ⟨fun a3 => ⟨fun a4 => w115 _ ?_, fun a4 => ⟨fun a5 => w115 _ ?_, fun a5 => ⟨fun a6 => ⟨fun a7 => w115 _ ?_, fun a7 => ⟨fun a8 => w115 _ ?_, fun a8 => ⟨fun a9 => w115 _ ?_, fun a9 => ⟨fun a10 => ⟨fun a11 => w115 _ ?_, fun a11 => ⟨fun a12 => w115 _ ?_, fun a12 => ⟨fun a13 => w115 _ ?_, fun a13 => w115 _ ?_⟩⟩⟩, fun a10 => w115 _ ?_⟩⟩⟩⟩, fun a6 => w115 _ ?_⟩⟩⟩, fun a3 => w115 _ ?_⟩, fun a2 => w115 _ ?_⟩⟩
  all_goals unfold sZ
  · rw [if_pos a1]
  · rw [if_neg a1, if_neg (fun q => q a2), if_neg a3, if_pos a4]
  · rw [if_neg a1, if_neg (fun q => q a2), if_neg a3, if_neg a4, if_pos a5]
  · rw [if_neg a1, if_neg (fun q => q a2), if_neg a3, if_neg a4, if_neg a5, if_neg a6, if_pos a7]
  · rw [if_neg a1, if_neg (fun q => q a2), if_neg a3, if_neg a4, if_neg a5, if_neg a6, if_neg a7, if_pos a8]
  · rw [if_neg a1, if_neg (fun q => q a2), if_neg a3, if_neg a4, if_neg a5, if_neg a6, if_neg a7, if_neg a8, if_pos a9]
  · rw [if_neg a1, if_neg (fun q => q a2), if_neg a3, if_neg a4, if_neg a5, if_neg a6, if_neg a7, if_neg a8, if_neg a9, if_neg a10, if_pos a11]
  · rw [if_neg a1, if_neg (fun q => q a2), if_neg a3, if_neg a4, if_neg a5, if_neg a6, if_neg a7, if_neg a8, if_neg a9, if_neg a10, if_neg a11, if_pos a12]
  · rw [if_neg a1, if_neg (fun q => q a2), if_neg a3, if_neg a4, if_neg a5, if_neg a6, if_neg a7, if_neg a8, if_neg a9, if_neg a10, if_neg a11, if_neg a12, if_neg a13]
  · rw [if_neg a1, if_neg (fun q => q a2), if_neg a3, if_neg a4, if_neg a5, if_neg a6, if_neg a7, if_neg a8, if_neg a9, if_neg a10, if_neg a11, if_neg a12, if_pos a13]
  · rw [if_neg a1, if_neg (fun q => q a2), if_neg a3, if_neg a4, if_neg a5, if_neg a6, if_neg a7, if_neg a8, if_neg a9, if_pos a10]
  · rw [if_neg a1, if_neg (fun q => q a2), if_neg a3, if_neg a4, if_neg a5, if_pos a6]
  · rw [if_neg a1, if_neg (fun q => q a2), if_pos a3]
  · rw [if_neg a1, if_pos a2]
end ZWO
