/-! WHAT HOLDS of a book behind n acts, in plain terms. -/
set_option maxRecDepth 100000
/-- of a person -/
def sInvP (n : Nat) (σ : ZS) (p : Nat) : Prop :=
  sa σ 700 p = nI p ∧ (¬ sa σ 701 p < -40000 ∧ ¬ 200000 < sa σ 701 p) ∧ (sa σ 702 p = 0 ∨ sa σ 702 p = 1) ∧
  ((∀ f ∈ rcPr, sOk (sn σ 2) (sa σ f p)) ∧ sOk (sn σ 1) (sa σ 710 p) ∧ (¬ sa σ 706 p = -1 → ¬ sa σ 705 p = -1)) ∧
  (sa σ 708 p = -1 ∧ sa σ 703 p = 0 ∧ sa σ 710 p = -1 ∨ (sa σ 708 p = 0 ∨ sa σ 708 p = 1 ∨ sa σ 708 p = 2) ∧ sa σ 702 p = 1 ∧ (sa σ 703 p = 0 ∧ ¬ sa σ 710 p = -1 ∨ sa σ 703 p = 1 ∧ sa σ 710 p = -1)) ∧
  (∃ e, sa σ 709 p = nI e ∧ e ≤ 300000) ∧
  ((sy σ p).length ≤ n ∧ ∀ x ∈ sy σ p, (∃ d, x.1 = nI d ∧ d ≤ 200000) ∧ sOk (sn σ 1) x.2) ∧
  ∀ g, g < sn σ 1 → sa σ 710 p = nI g → p ∈ sl σ 1 g
/-- of who lies in a grave -/
def sInvL (n : Nat) (σ : ZS) (g : Nat) : Prop :=
  (sl σ 1 g).Nodup ∧ (sl σ 1 g).length ≤ n ∧
  (∀ p ∈ sl σ 1 g, p < sn σ 2 ∧ sa σ 710 p = nI g ∧ (sa σ 708 p = 1 ↔ sa σ 10 g = 4 ∨ sa σ 10 g = 5) ∧
    (sa σ 10 g = 5 → sa σ 711 p = 0 ∧ sa σ 712 p = 0) ∧
    (¬ sa σ 10 g = 5 → (∃ c, sa σ 711 p = nI c ∧ c < 4 ∧ ¬ sColumns σ g ≤ nI c) ∧ (sa σ 712 p = 0 ∨ sa σ 712 p = 1 ∨ sa σ 712 p = 2) ∧ (sa σ 712 p = 1 → sa σ 10 g = 2 ∨ sa σ 10 g = 3) ∧ (sa σ 10 g = 4 → sa σ 712 p = 0))) ∧
  (¬ sa σ 10 g = 5 → ∀ p ∈ sl σ 1 g, ∀ q ∈ sl σ 1 g, sa σ 711 p = sa σ 711 q → sa σ 712 p = sa σ 712 q → ¬ sa σ 712 p = 2 → p = q)
/-- of a grave -/
def sInvG (n : Nat) (σ : ZS) (g : Nat) : Prop :=
  sa σ 600 g = nI g ∧ (∃ k, sa σ 10 g = nI k ∧ 1 ≤ k ∧ k ≤ 6) ∧ sWide (sa σ 10 g) (sa σ 604 g) ∧
  (∃ f r k m, sa σ 601 g = nI f ∧ sa σ 602 g = nI r ∧ sa σ 603 g = nI k ∧ sa σ 604 g = nI m ∧ f < sn σ 0 ∧ r < 12 ∧ k < 30 ∧ sa σ 605 g = sa σ 500 f ∧ (¬ sa σ 606 g = 4 → rcRowLive σ (12 * f + r) ∧ k + m ≤ sLen σ (12 * f + r) ∧ ∀ j, j < m → sPut σ (12 * f + r) (k + j) = nI (10 + g))) ∧
  (sa σ 606 g = 0 ∨ sa σ 606 g = 1 ∨ sa σ 606 g = 2 ∨ sa σ 606 g = 3 ∨ sa σ 606 g = 4) ∧
  (∀ f ∈ rcGr, sOk (sn σ 2) (sa σ f g)) ∧
  ((sa σ 606 g = 1 → ¬ sa σ 607 g = -1) ∧ (¬ sa σ 606 g = 1 → sa σ 607 g = -1 ∧ sa σ 613 g = -1) ∧ (¬ sa σ 606 g = 2 → sa σ 609 g = -1) ∧ (sa σ 606 g = 0 → sa σ 614 g = -1 ∧ (¬ sa σ 10 g = 5 → sl σ 1 g = [])) ∧ (sa σ 10 g = 5 → sa σ 606 g = 0) ∧ (sa σ 606 g = 4 → sl σ 1 g = [])) ∧
  ((sl σ 0 g).Nodup ∧ ∀ p ∈ sl σ 0 g, p < sn σ 2) ∧
  (sa σ 606 g = 2 → ¬ sa σ 614 g = -1 ∧ ∃ k, sa σ 612 g = nI k ∧ k ≤ (sl σ 0 g).length ∧ sa σ 609 g = sAtNo (sl σ 0 g) k) ∧
  (∃ t d o, sa σ 203 0 = nI t ∧ sa σ 608 g = nI d ∧ d ≤ 200000 + 7300 * n ∧ sa σ 610 g = nI o ∧ o ≤ 200060 ∧ (sa σ 606 g = 1 ∨ sa σ 606 g = 2 → t ≤ d) ∧ (sa σ 606 g = 2 → t ≤ o))
/-- of a field and a row -/
def sInvF (σ : ZS) (f : Nat) : Prop := (∃ x, sa σ 500 f = nI x ∧ x ≤ 2) ∧ ∃ m, sa σ 502 f = nI m ∧ m ≤ 12 ∧ ∀ i, i < m → sa σ 501 (12 * f + i) = 0 ∨ sa σ 501 (12 * f + i) = -1
def sInvR (σ : ZS) (r : Nat) : Prop := (∃ m, sa σ 6 r = nI m ∧ m ≤ 30) ∧ (sa σ 5 r = 0 ∨ sa σ 5 r = 1 ∨ sa σ 5 r = 2 ∨ sa σ 5 r = 3) ∧ ∀ k, k < sLen σ r → sSpot (sn σ 1) (sPut σ r k)
def sInv (n : Nat) (σ : ZS) : Prop :=
  (n ≤ 24 ∧ sn σ 0 + (sn σ 1 + sn σ 2) ≤ n ∧ sn σ 0 ≤ 8 ∧ ∀ k, 3 ≤ k → sn σ k = 0) ∧ (∃ t, sa σ 203 0 = nI t ∧ t ≤ 200000) ∧ (∀ p, p < sn σ 2 → sInvP n σ p) ∧ (∀ g, g < sn σ 1 → sInvG n σ g ∧ sInvL n σ g) ∧ (∀ f, f < sn σ 0 → sInvF σ f) ∧ ∀ r, rcRowLive σ r → sInvR σ r
section ZIV
variable {n : Nat} {σ σ' : ZS}
theorem sInv.le (I : sInv n σ) : sn σ 0 ≤ 8 ∧ sn σ 1 ≤ 24 ∧ sn σ 2 ≤ 24 := by
  obtain ⟨⟨i1, i2, i3, i4⟩, -⟩ := I
  omega
theorem sInv.ref (I : sInv n σ) : sRef σ := by
  have hle := I.le
  obtain ⟨⟨i1, i2, i3, i4⟩, it, iP, iG, iF, iR⟩ := I
  refine ⟨⟨fun p hp => ⟨(iP p hp).2.2.2.1.1, (iP p hp).2.2.2.1.2.1⟩, fun g hg => (iG g hg).1.2.2.2.2.2.1⟩, fun g hg => ⟨(iG g hg).1.2.2.2.2.2.2.2.1.2, fun p hp => ((iG g hg).2.2.2.1 p hp).1⟩, fun p hp x hx => ((iP p hp).2.2.2.2.2.2.1.2 x hx).2, fun r hr k hk => (iR r hr).2.2 k hk, fun k => ?_, fun p hp => ?_⟩
  · by_cases h : 3 ≤ k
    · rw [i4 k h]; omega
    · have : k = 0 ∨ k = 1 ∨ k = 2 := by omega
      rcases this with q | q | q <;> subst q <;> omega
  · have := (iP p hp).2.2.2.2.2.2.1.1
    omega
theorem sInv.p700 (I : sInv n σ) : ∀ p, p < sn σ 2 → sa σ 700 p = nI p := fun p hp => (I.2.2.1 p hp).1
theorem sInv.held (I : sInv n σ) : ∀ g, g < sn σ 1 → sa σ 606 g = 1 → ¬ sa σ 607 g = -1 := fun g hg => (I.2.2.2.1 g hg).1.2.2.2.2.2.2.1.1
theorem sInv.ly (I : sInv n σ) : sLy σ := by
  have hn := I.1.1
  refine ⟨fun g hg => ⟨by have := (I.2.2.2.1 g hg).2.2.1; omega, fun q hq => ?_⟩, fun p hp => ⟨by have := (I.2.2.1 p hp).2.2.2.2.2.2.1.1; omega, (I.2.2.1 p hp).2.2.2.2.2.2.2⟩⟩
  obtain ⟨h1, h2, -⟩ := (I.2.2.2.1 g hg).2.2.2.1 q hq
  refine ⟨fun z => ?_, h2⟩
  have hle := I.le
  rcases (I.2.2.1 q h1).2.2.2.2.1 with w | w
  · rw [h2] at w
    exact nI_pos (by omega : g < 2 ^ 31) (w.2.2 ▸ (by decide : (-1 : Int32) < 0))
  · rw [z] at w
    rcases w.1 with y | y | y <;> exact absurd y (by decide)
theorem sInv.tg (I : sInv n σ) : ∀ g, g < sn σ 1 → sTG σ g := by
  intro g hg
  have hle := I.le
  obtain ⟨g1, g2, g3, g4, g5, g6, ⟨g71, g72, g73, g74, g75, g76⟩, ⟨g81, g82⟩, g9, g10⟩ := (I.2.2.2.1 g hg).1
  have len := nodup_len (sn σ 2) (sl σ 0 g) g81 g82
  refine ⟨fun w => g73 (by rw [w]; decide), fun w => ?_, g6 609 (by simp [rcGr]), g82, by omega⟩
  obtain ⟨-, k, k1, k2, k3⟩ := g9 w
  refine ⟨k, k1, by omega, fun z => ?_⟩
  rw [k3, sAtNo_no (fun p hp => by have := g82 p hp; omega)] at z
  exact Classical.byContradiction z
theorem sInv.kinds (I : sInv n σ) : sKinds σ := by
  intro g hg
  obtain ⟨k, k1, k2, k3⟩ := (I.2.2.2.1 g hg).1.2.1
  rw [k1]
  exact ⟨nI_nlt (a := k) (b := 1) (by omega) (by omega), nI_nlt (a := 6) (b := k) (by omega) (by omega)⟩
theorem sInv.nd (I : sInv n σ) : ∀ g, g < sn σ 1 → (sl σ 1 g).Nodup := fun g hg => (I.2.2.2.1 g hg).2.1
theorem sInv.set (I : sInv n σ) : ∀ g, g < sn σ 1 → sa σ 606 g = 3 → sSet σ g := by
  intro g hg w
  obtain ⟨f, r, k, m, h1, h2, h3, h4, h5, h6, h7, h8, h9⟩ := (I.2.2.2.1 g hg).1.2.2.2.1
  obtain ⟨h10, h11, -⟩ := h9 (by rw [w]; decide)
  exact ⟨f, r, k, m, h1, h2, h3, h4, h5, h6, h10, h11⟩
theorem s0_inv : sInv 0 s0 := by
  refine ⟨⟨by omega, by show 0 + (0 + 0) ≤ 0; omega, by show (0 : Nat) ≤ 8; omega, fun _ _ => rfl⟩, ⟨0, rfl, by omega⟩, fun p hp => absurd hp (Nat.not_lt_zero p), fun g hg => absurd hg (Nat.not_lt_zero g), fun f hf => absurd hf (Nat.not_lt_zero f), fun r hr => absurd hr.1 (Nat.not_lt_zero _)⟩
end ZIV
