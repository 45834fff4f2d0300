/-! METHODS of the component on the picture of a book: the act 'dies'. -/
set_option maxRecDepth 100000
section ZDI
variable {G : Nat × Nat × Nat} {F : Nat → Prop} {h0 h h' : ZH} {A A' : ZA} {E E' : Nat → Nat} {σ σ' : ZS} {cb b : Nat} {C : Nat → List Nat}
theorem sPos_congr {l : List Nat} {p : Nat} (ha : ∀ k i, 700 ≤ k → sa σ' k i = sa σ k i) : ∀ j, sPos σ' l p j = sPos σ l p j := by
  intro j
  induction j with
  | zero => rfl
  | succ j ih =>
    show (if sa σ' 701 (l.getD j 0) ≤ sa σ' 701 p then j + 1 else sPos σ' l p j) = if sa σ 701 (l.getD j 0) ≤ sa σ 701 p then j + 1 else sPos σ l p j
    rw [ha 701 _ (by omega), ha 701 _ (by omega), ih]
theorem sKidB_congr {x : Nat} {ch : Bool} {p : Nat} (ha : ∀ k i, 700 ≤ k → sa σ' k i = sa σ k i) : sKidB σ' x ch p = sKidB σ x ch p := by
  unfold sKidB
  cases ch with
  | true => exact decide_eq_decide.mpr (by unfold sParent; rw [ha 705 _ (by omega), ha 706 _ (by omega)])
  | false => exact decide_eq_decide.mpr (by unfold sSibl sParent; rw [ha 705 _ (by omega), ha 706 _ (by omega), ha 705 _ (by omega), ha 706 _ (by omega)])
theorem sKids_congr {x : Nat} {ch : Bool} (ha : ∀ k i, 700 ≤ k → sa σ' k i = sa σ k i) : ∀ i, sKids σ' x ch i = sKids σ x ch i := by
  intro i
  induction i with
  | zero => rfl
  | succ i ih =>
    show (if sKidB σ' x ch i = true then sIns σ' (sKids σ' x ch i) i else sKids σ' x ch i) = if sKidB σ x ch i = true then sIns σ (sKids σ x ch i) i else sKids σ x ch i
    rw [ih, sKidB_congr ha]
    unfold sIns
    rw [sPos_congr ha]
/-- references, where only an order was written -/
theorem sRef_o {g : Nat} (W : sRef σ) (O : sOO σ' g) (hn : sn σ' = sn σ) (ha : ∀ k i, (k ∈ [704, 705, 706, 707, 710, 607, 609, 614, 502, 501, 6, 8]) → sa σ' k i = sa σ k i) (hy : sy σ' = sy σ) (hl : ∀ k i, ¬ (k = 0 ∧ i = g) → sl σ' k i = sl σ k i) : sRef σ' := by
  obtain ⟨⟨w1, w1'⟩, w2, w3, w4, w5, w6⟩ := W
  obtain ⟨o1, o2⟩ := O
  unfold sRef sWF
  rw [hn] at o2 ⊢
  rw [hy]
  refine ⟨⟨fun q hq => ⟨fun f hf => ?_, ?_⟩, fun q hq f hf => ?_⟩, fun q hq => ⟨fun p hp => ?_, fun p hp => ?_⟩, w3, fun r hr k hk => ?_, w5, w6⟩
  · rw [ha f q (by simp [rcPr] at hf; simp; omega)]; exact (w1 q hq).1 f hf
  · rw [ha 710 q (by decide)]; exact (w1 q hq).2
  · rw [ha f q (by simp [rcGr] at hf; simp; omega)]; exact w1' q hq f hf
  · by_cases e : q = g
    · rw [e] at hp; exact o2 p hp
    · rw [hl 0 q (fun z => e z.2)] at hp; exact (w2 q hq).1 p hp
  · rw [hl 1 q (by omega)] at hp; exact (w2 q hq).2 p hp
  · obtain ⟨r1, r2, r3⟩ := hr
    rw [hn] at r1
    rw [ha 502 _ (by decide)] at r2
    rw [ha 501 _ (by decide)] at r3
    rw [ha 6 _ (by decide)] at hk
    rw [ha 8 _ (by decide)]
    exact w4 r ⟨r1, r2, r3⟩ k hk
def sOff0 (σ : ZS) (g p : Nat) : ZS := slu (sau (sau (sau (sau σ 606 g 2) 607 g (-1)) 613 g (-1)) 614 g (nI p)) 0 g []
abbrev sTurned (σ : ZS) (p : Nat) : Prop := ¬ sa σ 705 p = -1 ∧ ¬ sa σ 706 p = -1 ∧ ¬ sa σ 700 (sa σ 705 p).toNatClampNeg ≤ sa σ 700 (sa σ 706 p).toNatClampNeg
/-- those whom it is offered to, in order: from σ1 on -/
def sHeirs (σ σ1 : ZS) (g p : Nat) : ZS :=
  sOrdL (sOrdO (sOrdO (sOrdL (sOrdO (sOrdO σ1 g (sa σ 707 p)) g (sa σ 704 p)) g (sKids σ p true (sn σ 2))) g (if sTurned σ p then sa σ 706 p else sa σ 705 p)) g (if sTurned σ p then sa σ 705 p else sa σ 706 p)) g (sKids σ p false (sn σ 2))
def sOffers (σ : ZS) (g p : Nat) : ZS := sPass (sau (sHeirs σ (sOff0 σ g p) g p) 612 g (-1)) g (sa σ 203 0) 0
theorem sHeirs_el {σ1 : ZS} {g p : Nat} : sn (sHeirs σ σ1 g p) = sn σ1 ∧ (∀ k i, sa (sHeirs σ σ1 g p) k i = sa σ1 k i) ∧ sy (sHeirs σ σ1 g p) = sy σ1 ∧ ∀ k i, ¬ (k = 0 ∧ i = g) → sl (sHeirs σ σ1 g p) k i = sl σ1 k i := by
  unfold sHeirs
  obtain ⟨a1, a2, a3, a4⟩ := @sOrdO_el σ1 g (sa σ 707 p)
  generalize sOrdO σ1 g (sa σ 707 p) = t1 at *
  obtain ⟨b1, b2, b3, b4⟩ := @sOrdO_el t1 g (sa σ 704 p)
  generalize sOrdO t1 g (sa σ 704 p) = t2 at *
  obtain ⟨c1, c2, c3, c4⟩ := sOrdL_el (g := g) (sKids σ p true (sn σ 2)) t2
  generalize sOrdL t2 g (sKids σ p true (sn σ 2)) = t3 at *
  obtain ⟨d1, d2, d3, d4⟩ := @sOrdO_el t3 g (if sTurned σ p then sa σ 706 p else sa σ 705 p)
  generalize sOrdO t3 g (if sTurned σ p then sa σ 706 p else sa σ 705 p) = t4 at *
  obtain ⟨e1, e2, e3, e4⟩ := @sOrdO_el t4 g (if sTurned σ p then sa σ 705 p else sa σ 706 p)
  generalize sOrdO t4 g (if sTurned σ p then sa σ 705 p else sa σ 706 p) = t5 at *
  obtain ⟨f1, f2, f3, f4⟩ := sOrdL_el (g := g) (sKids σ p false (sn σ 2)) t5
  exact ⟨f1.trans (e1.trans (d1.trans (c1.trans (b1.trans a1)))), fun k i => (f2 k i).trans ((e2 k i).trans ((d2 k i).trans ((c2 k i).trans ((b2 k i).trans (a2 k i))))), f3.trans (e3.trans (d3.trans (c3.trans (b3.trans a3)))), fun k i q => (f4 k i q).trans ((e4 k i q).trans ((d4 k i q).trans ((c4 k i q).trans ((b4 k i q).trans (a4 k i q)))))⟩
theorem sOffers_el {g p : Nat} : sn (sOffers σ g p) = sn σ ∧ (∀ k i, ¬ (600 ≤ k ∧ k < 700 ∧ i = g) → sa (sOffers σ g p) k i = sa σ k i) ∧ sy (sOffers σ g p) = sy σ ∧ ∀ k i, ¬ (k = 0 ∧ i = g) → sl (sOffers σ g p) k i = sl σ k i := by
  obtain ⟨a1, a2, a3, a4⟩ := @sHeirs_el σ (sOff0 σ g p) g p
  unfold sOffers sPass
  refine ⟨a1, fun k i q => ?_, a3, fun k i q => (a4 k i q).trans ?_⟩
  · rw [sa_au, if_neg (by omega), sa_au, if_neg (by omega), sa_au, if_neg (by omega), sa_au, if_neg (by omega), a2]
    unfold sOff0
    rw [sa_lu, sa_au, if_neg (by omega), sa_au, if_neg (by omega), sa_au, if_neg (by omega), sa_au, if_neg (by omega)]
  · unfold sOff0
    rw [sl_lu, if_neg q]; rfl
theorem sOffers_g {g p : Nat} : sa (sOffers σ g p) 606 g = 2 ∧ sa (sOffers σ g p) 607 g = -1 ∧ sa (sOffers σ g p) 613 g = -1 ∧ sa (sOffers σ g p) 614 g = nI p ∧ sa (sOffers σ g p) 608 g = sa σ 608 g ∧ ∃ X : ZS, sOffers σ g p = sPass X g (sa σ 203 0) 0 ∧ sl X = sl (sHeirs σ (sOff0 σ g p) g p) ∧ (∀ k i, 700 ≤ k → sa X k i = sa σ k i) := by
  obtain ⟨a1, a2, a3, a4⟩ := @sHeirs_el σ (sOff0 σ g p) g p
  have e : ∀ f, ¬ (f = 609 ∨ f = 610 ∨ f = 612) → sa (sOffers σ g p) f g = sa (sOff0 σ g p) f g := fun f hf => by
    unfold sOffers sPass
    rw [sa_au, if_neg (by omega), sa_au, if_neg (by omega), sa_au, if_neg (by omega), sa_au, if_neg (by omega), a2]
  refine ⟨?_, ?_, ?_, ?_, ?_, _, rfl, rfl, fun k i hk => ?_⟩
  · rw [e 606 (by omega)]; unfold sOff0; simp [sa_au, sa_lu]
  · rw [e 607 (by omega)]; unfold sOff0; simp [sa_au, sa_lu]
  · rw [e 613 (by omega)]; unfold sOff0; simp [sa_au, sa_lu]
  · rw [e 614 (by omega)]; unfold sOff0; simp [sa_au, sa_lu]
  · rw [e 608 (by omega)]; unfold sOff0; simp [sa_au, sa_lu]
  · rw [sa_au, if_neg (by omega), a2]
    unfold sOff0
    rw [sa_lu, sa_au, if_neg (by omega), sa_au, if_neg (by omega), sa_au, if_neg (by omega), sa_au, if_neg (by omega)]
theorem sp_offers (R : rcAll G F h0 A E h σ cb b) (W : sRef σ) {Q : ZH → Prop} {g p bc bs : Nat} (hg : g < sn σ 1) (hp : p < sn σ 2) (hc : 8 + 4 * sn σ 2 ≤ bc) (hs : 262 + 256 * sn σ 2 ≤ bs)
    (hQ : ∀ E' h', rcAll G F h0 A E' h' (sOffers σ g p) cb b → sOO (sOffers σ g p) g → Q h') : fc_X5_offers G b Q h bc bs (some (A 1 g)) (some (A 0 p)) := by
  have h40 := W.2.2.2.2.1 2
  have hm := rc_gt R hg
  refine ⟨_, rfl, hm, fun h2 e2 => ?_⟩
  have R2 : rcAll G F h0 A E h2 (sau σ 606 g 2) cb b := e2 ▸ rc_Gi R hg (f := 606) (x := 2) (by simp [rcGi])
  refine ⟨rc_gt R2 hg, fun h3 e3 => ?_⟩
  have R3 : rcAll G F h0 A E h3 (sau (sau σ 606 g 2) 607 g (-1)) cb b := e3 ▸ rc_Gr R2 hg (f := 607) (x := -1) (by simp [rcGr])
  refine ⟨rc_gt R3 hg, fun h4 e4 => ?_⟩
  have R4 : rcAll G F h0 A E h4 (sau (sau (sau σ 606 g 2) 607 g (-1)) 613 g (-1)) cb b := e4 ▸ rc_T0 R3 hg rfl
  refine ⟨rc_gt R4 hg, fun h5 e5 => ?_⟩
  have rp : some (A 0 p) = rfx (A 0) (nI p) := (rfx_some _ (by omega)).symm
  have R5 : rcAll G F h0 A E h5 (sau (sau (sau (sau σ 606 g 2) 607 g (-1)) 613 g (-1)) 614 g (nI p)) cb b := by
    rw [e5, rp]
    exact rc_Gr R4 hg (f := 614) (x := nI p) (by simp [rcGr])
  have L5 := rc_ord R5 hg
  refine ⟨rc_gt R5 hg, _, (R5.2.2.2.2.1 g hg).2.2.2.1, L5.1, zl_clear L5 fun h7 hL hA => ?_⟩
  have R7 : rcAll G F h0 A _ h7 (sOff0 σ g p) cb b := rc_L R5 (k := 0) (l := []) (by omega) hg (by omega) rfl hL hA
  have a7 : ∀ k i, ¬ (600 ≤ k ∧ k < 700 ∧ i = g) → sa (sOff0 σ g p) k i = sa σ k i := fun k i q => by
    unfold sOff0
    rw [sa_lu, sa_au, if_neg (by omega), sa_au, if_neg (by omega), sa_au, if_neg (by omega), sa_au, if_neg (by omega)]
  have O7 : sOO (sOff0 σ g p) g := by
    have e : sl (sOff0 σ g p) 0 g = [] := if_pos ⟨rfl, rfl⟩
    unfold sOO
    rw [e]; exact ⟨List.nodup_nil, fun q hq => absurd hq (List.not_mem_nil)⟩
  have l7 : ∀ k i, ¬ (k = 0 ∧ i = g) → sl (sOff0 σ g p) k i = sl σ k i := fun k i q => by
    unfold sOff0
    rw [sl_lu, if_neg q]; rfl
  have W7 : sRef (sOff0 σ g p) := by
    obtain ⟨⟨w1, w1'⟩, w2, w3, w4, w5, w6⟩ := W
    refine ⟨⟨fun q hq => ⟨fun f hf => ?_, ?_⟩, fun q hq f hf => ?_⟩, fun q hq => ⟨fun y hy => ?_, fun y hy => ?_⟩, w3, fun r hr k hk => ?_, w5, w6⟩
    · rw [a7 f q (by simp [rcPr] at hf; omega)]; exact (w1 q hq).1 f hf
    · rw [a7 710 q (by omega)]; exact (w1 q hq).2
    · by_cases e : q = g
      · subst e
        unfold sOff0
        rw [sa_lu]
        simp only [rcGr, List.mem_cons, List.not_mem_nil, or_false] at hf
        rcases hf with z | z | z <;> subst z
        · rw [sa_au, if_neg (by omega), sa_au, if_neg (by omega), sa_au, if_pos ⟨rfl, rfl⟩]; exact Or.inl rfl
        · rw [sa_au, if_neg (by omega), sa_au, if_neg (by omega), sa_au, if_neg (by omega), sa_au, if_neg (by omega)]; exact w1' q hq 609 (by simp [rcGr])
        · rw [sa_au, if_pos ⟨rfl, rfl⟩]; exact Or.inr ⟨p, hp, rfl⟩
      · rw [a7 f q (fun z => e z.2.2)]; exact w1' q hq f hf
    · by_cases e : q = g
      · rw [e] at hy; exact O7.2 y hy
      · rw [l7 0 q (fun z => e z.2)] at hy; exact (w2 q hq).1 y hy
    · rw [l7 1 q (by omega)] at hy; exact (w2 q hq).2 y hy
    · obtain ⟨r1, r2, r3⟩ := hr
      rw [a7 502 _ (by omega)] at r2
      rw [a7 501 _ (by omega)] at r3
      rw [a7 6 _ (by omega)] at hk
      rw [a7 8 _ (by omega)]
      exact w4 r ⟨r1, r2, r3⟩ k hk
  -- a state on the way
  have ok : ∀ f ∈ rcPr, sOk (sn σ 2) (sa σ f p) := (W.1.1 p hp).1
  have ref : ∀ (t : ZS) (E1 : Nat → Nat) (hh : ZH) (f : Nat), f ∈ rcPr → (∀ k i, sa t k i = sa (sOff0 σ g p) k i) → sn t = sn σ → rcAll G F h0 A E1 hh t cb b → zr hh f (A 0 p) = rfx (A 0) (sa σ f p) ∧ zt hh (A 0 p) ∈ [14] := by
    intro t E1 hh f hf ha hn Rt
    obtain ⟨x1, x2, x3, -⟩ := Rt.2.2.2.1 p (by rw [hn]; exact hp)
    refine ⟨?_, by rw [x1]; decide⟩
    rw [x3 f hf, ha, a7 f p (by simp [rcPr] at hf; omega)]
  refine ⟨_, rfl, (ref _ _ h7 707 (by simp [rcPr]) (fun _ _ => rfl) rfl R7).2, R7.1.1, 1, 64, by omega, by omega, ?_⟩
  rw [(ref _ _ h7 707 (by simp [rcPr]) (fun _ _ => rfl) rfl R7).1]
  refine sp_orders R7 hg h40 O7 (ok 707 (by simp [rcPr])) (Nat.le_refl _) (Nat.le_refl _) fun E11 h11 R11 _ => ?_
  obtain ⟨a1, a2, a3, a4⟩ := @sOrdO_el (sOff0 σ g p) g (sa σ 707 p)
  have O11 := sOrdO_OO O7 (show sn (sOff0 σ g p) 2 < 2 ^ 31 from by show sn σ 2 < 2 ^ 31; omega) (ok 707 (by simp [rcPr]))
  have eH : sHeirs σ (sOff0 σ g p) g p = sOrdL (sOrdO (sOrdO (sOrdL (sOrdO (sOrdO (sOff0 σ g p) g (sa σ 707 p)) g (sa σ 704 p)) g (sKids σ p true (sn σ 2))) g (if sTurned σ p then sa σ 706 p else sa σ 705 p)) g (if sTurned σ p then sa σ 705 p else sa σ 706 p)) g (sKids σ p false (sn σ 2)) := rfl
  generalize sOrdO (sOff0 σ g p) g (sa σ 707 p) = t1 at *
  have a1 : sn t1 = sn σ := a1
  refine ⟨(ref t1 _ h11 704 (by simp [rcPr]) a2 a1 R11).2, R11.1.1, 1, 64, by omega, by omega, ?_⟩
  rw [(ref t1 _ h11 704 (by simp [rcPr]) a2 a1 R11).1]
  have hg1 : g < sn t1 1 := by rw [a1]; exact hg
  refine sp_orders R11 hg1 (by rw [a1]; exact h40) O11 (by rw [a1]; exact ok 704 (by simp [rcPr])) (Nat.le_refl _) (Nat.le_refl _) fun E14 h14 R14 _ => ?_
  obtain ⟨b1, b2, b3, b4⟩ := @sOrdO_el t1 g (sa σ 704 p)
  have O14 := sOrdO_OO O11 (by rw [a1]; omega) (by rw [a1]; exact ok 704 (by simp [rcPr]))
  generalize sOrdO t1 g (sa σ 704 p) = t2 at *
  have b1 : sn t2 = sn σ := b1.trans a1
  have b2 : ∀ k i, sa t2 k i = sa (sOff0 σ g p) k i := fun k i => (b2 k i).trans (a2 k i)
  have b3 : sy t2 = sy σ := b3.trans a3
  have b4 : ∀ k i, ¬ (k = 0 ∧ i = g) → sl t2 k i = sl (sOff0 σ g p) k i := fun k i q => (b4 k i q).trans (a4 k i q)
  have W14 : sRef t2 := sRef_o W7 O14 b1 (fun k i _ => b2 k i) b3 b4
  have kid : ∀ t ch, (∀ k i, sa t k i = sa (sOff0 σ g p) k i) → sn t = sn σ → sKids t p ch (sn t 2) = sKids σ p ch (sn σ 2) := fun t ch ha hn => by
    rw [hn]
    exact sKids_congr (fun k i hk => by rw [ha, a7 k i (by omega)]) _
  refine ⟨R14.1.1, 2 + 2 * sn σ 2, 3 + 128 * sn σ 2, by omega, by omega, sp_byAge R14 W14 (ch := true) rfl (by rw [b1]; exact hg) (by rw [b1]; exact hp) O14 (by rw [b1]; exact Nat.le_refl _) (by rw [b1]; exact Nat.le_refl _) fun E17 h17 R17 => ?_⟩
  rw [kid t2 true b2 b1] at R17
  obtain ⟨c1, c2, c3, c4⟩ := sOrdL_el (g := g) (sKids σ p true (sn σ 2)) t2
  have O17 := sOrdL_OO (g := g) (sKids σ p true (sn σ 2)) t2 O14 (fun q hq => by rw [b1]; exact (sKids_el (sn σ 2)).2 q hq)
  generalize sOrdL t2 g (sKids σ p true (sn σ 2)) = t3 at *
  have c1 : sn t3 = sn σ := c1.trans b1
  have c2 : ∀ k i, sa t3 k i = sa (sOff0 σ g p) k i := fun k i => (c2 k i).trans (b2 k i)
  have c3 : sy t3 = sy σ := c3.trans b3
  have c4 : ∀ k i, ¬ (k = 0 ∧ i = g) → sl t3 k i = sl (sOff0 σ g p) k i := fun k i q => (c4 k i q).trans (b4 k i q)
  have f5 := (ref t3 _ h17 705 (by simp [rcPr]) c2 c1 R17).1
  have f6 := (ref t3 _ h17 706 (by simp [rcPr]) c2 c1 R17).1
  have m17 := (ref t3 _ h17 705 (by simp [rcPr]) c2 c1 R17).2
  -- the last part
  have last : ∀ (t4 : ZS) (E1 : Nat → Nat) (hh : ZH) (x : Int32) (c s : Nat), 1 + (2 + 2 * sn σ 2) ≤ c → 64 + (3 + 128 * sn σ 2) ≤ s → sn t4 = sn σ → (∀ k i, sa t4 k i = sa (sOff0 σ g p) k i) → sy t4 = sy σ → (∀ k i, ¬ (k = 0 ∧ i = g) → sl t4 k i = sl (sOff0 σ g p) k i) → sOO t4 g → sOk (sn σ 2) x → sHeirs σ (sOff0 σ g p) g p = sOrdL (sOrdO t4 g x) g (sKids σ p false (sn σ 2)) → rcAll G F h0 A E1 hh t4 cb b → fc_X5_offers_126 G b Q hh c s (some (A 1 g)) (some (A 0 p)) (some (A 1 g)) (rfx (A 0) x) := by
    intro t4 E1 hh x c s hc hs d1 d2 d3 d4 O hx eq R4
    have hg4 : g < sn t4 1 := by rw [d1]; exact hg
    refine ⟨R4.1.1, 1, 64, by omega, by omega, sp_orders R4 hg4 (by rw [d1]; exact h40) O (by rw [d1]; exact hx) (Nat.le_refl _) (Nat.le_refl _) fun E3 h3 R3 _ => ?_⟩
    obtain ⟨e1, e2, e3, e4⟩ := @sOrdO_el t4 g x
    have O3 := sOrdO_OO O (by rw [d1]; omega) (by rw [d1]; exact hx : sOk (sn t4 2) x)
    generalize sOrdO t4 g x = t5 at *
    have e1 : sn t5 = sn σ := e1.trans d1
    have e2 : ∀ k i, sa t5 k i = sa (sOff0 σ g p) k i := fun k i => (e2 k i).trans (d2 k i)
    have W3 : sRef t5 := sRef_o W7 O3 e1 (fun k i _ => e2 k i) (e3.trans d3) (fun k i q => (e4 k i q).trans (d4 k i q))
    refine ⟨R3.1.1, 2 + 2 * sn σ 2, 3 + 128 * sn σ 2, by omega, by omega, sp_byAge R3 W3 (ch := false) rfl (by rw [e1]; exact hg) (by rw [e1]; exact hp) O3 (by rw [e1]; exact Nat.le_refl _) (by rw [e1]; exact Nat.le_refl _) fun E6 h6 R6 => ?_⟩
    rw [kid t5 false e2 e1, ← eq] at R6
    have O6 := sOrdL_OO (g := g) (sKids σ p false (sn σ 2)) t5 O3 (fun q hq => by rw [e1]; exact (sKids_el (sn σ 2)).2 q hq)
    rw [← eq] at O6
    obtain ⟨x1, x2, x3, x4⟩ := @sHeirs_el σ (sOff0 σ g p) g p
    have eO : sOffers σ g p = sPass (sau (sHeirs σ (sOff0 σ g p) g p) 612 g (-1)) g (sa σ 203 0) 0 := rfl
    generalize sHeirs σ (sOff0 σ g p) g p = t6 at *
    have x1 : sn t6 = sn σ := x1
    have hg6 : g < sn t6 1 := by rw [x1]; exact hg
    refine ⟨_, rfl, rc_gt R6 hg6, fun h8 e8 => ?_⟩
    have R8 : rcAll G F h0 A E6 h8 (sau t6 612 g (-1)) cb b := e8 ▸ rc_Gi R6 hg6 (f := 612) (x := -1) (by simp [rcGi])
    refine ⟨by rw [R8.1.1]; decide, ?_⟩
    have z203 : zi h8 203 b = sa σ 203 0 := by
      rw [R8.1.2.1, sa_au, if_neg (by omega), x2, a7 203 0 (by omega)]
    rw [z203]
    refine sp_pass R8 (k := 0) hg6 (by rw [sa_au, if_pos ⟨rfl, rfl⟩]; rfl) (by omega) (fun q hq => O6.2 q hq) fun h9 R9 => ?_
    rw [← eO] at R9
    refine hQ E6 h9 R9 ?_
    rw [eO]
    exact O6
  have no5 : sa σ 705 p = -1 → ¬ sTurned σ p := fun z q => q.1 z
  have no6 : sa σ 706 p = -1 → ¬ sTurned σ p := fun z q => q.2.1 z
  have mid : ∀ (t0 : Int32) (c s : Nat), 2 + (2 + 2 * sn σ 2) ≤ c → 128 + (3 + 128 * sn σ 2) ≤ s → (t0 = 0 ∧ ¬ sTurned σ p ∨ t0 = 1 ∧ sTurned σ p) → fc_X5_offers_88 G b Q h17 c s (some (A 1 g)) (some (A 0 p)) t0 := by
    intro t0 c s hc hs ht
    have two : ∀ (x y : Int32) (f : Nat), f ∈ rcPr → sa σ f p = y → sOk (sn σ 2) x → x = (if sTurned σ p then sa σ 706 p else sa σ 705 p) → y = (if sTurned σ p then sa σ 705 p else sa σ 706 p) → (t0 = 0 ∧ f = 706 ∨ t0 = 1 ∧ f = 705) → fc_X5_offers_106 G b Q h17 c s (some (A 1 g)) (some (A 0 p)) t0 (some (A 1 g)) (rfx (A 0) x) := by
      intro x y f hf ey hx ex ey2 hsel
      refine ⟨R17.1.1, 1, 64, by omega, by omega, sp_orders R17 (by rw [c1]; exact hg) (by rw [c1]; exact h40) O17 (by rw [c1]; exact hx) (Nat.le_refl _) (Nat.le_refl _) fun E3 h3 R3 _ => ?_⟩
      obtain ⟨d1, d2, d3, d4⟩ := @sOrdO_el t3 g x
      have O4 := sOrdO_OO O17 (by rw [c1]; omega) (by rw [c1]; exact hx : sOk (sn t3 2) x)
      have eH4 : sHeirs σ (sOff0 σ g p) g p = sOrdL (sOrdO (sOrdO t3 g x) g y) g (sKids σ p false (sn σ 2)) := by rw [eH, ← ex, ← ey2]
      generalize sOrdO t3 g x = t4 at *
      have d1 : sn t4 = sn σ := d1.trans c1
      have d2 : ∀ k i, sa t4 k i = sa (sOff0 σ g p) k i := fun k i => (d2 k i).trans (c2 k i)
      have R3f := ref t4 _ h3 f hf d2 d1 R3
      have fin := last t4 E3 h3 y (c - 1) (s - 64) (by omega) (by omega) d1 d2 (d3.trans c3) (fun k i q => (d4 k i q).trans (c4 k i q)) O4 (by rw [← ey]; exact ok f hf) eH4 R3
      rw [← ey, ← R3f.1] at fin
      refine ⟨fun z => ⟨_, rfl, R3f.2, ?_⟩, fun z => ⟨_, rfl, R3f.2, ?_⟩⟩
      · rcases hsel with ⟨w1, w2⟩ | ⟨w1, w2⟩
        · rw [w2] at fin; exact fin
        · rw [w1] at z; exact absurd z (by decide)
      · rcases hsel with ⟨w1, w2⟩ | ⟨w1, w2⟩
        · exact absurd w1 z
        · rw [w2] at fin; exact fin
    refine ⟨fun z => ⟨_, rfl, m17, ?_⟩, fun z => ⟨_, rfl, m17, ?_⟩⟩
    · rcases ht with ⟨w1, w2⟩ | ⟨w1, w2⟩
      · rw [f5]
        exact two (sa σ 705 p) (sa σ 706 p) 706 (by simp [rcPr]) rfl (ok 705 (by simp [rcPr])) (by rw [if_neg w2]) (by rw [if_neg w2]) (Or.inl ⟨w1, rfl⟩)
      · rw [w1] at z; exact absurd z (by decide)
    · rcases ht with ⟨w1, w2⟩ | ⟨w1, w2⟩
      · exact absurd w1 z
      · rw [f6]
        exact two (sa σ 706 p) (sa σ 705 p) 705 (by simp [rcPr]) rfl (ok 706 (by simp [rcPr])) (by rw [if_pos w2]) (by rw [if_pos w2]) (Or.inr ⟨w1, rfl⟩)
  refine ⟨m17, fun z => mid 0 _ _ (by omega) (by omega) (Or.inl ⟨rfl, no5 ?_⟩), fun b18 z => ⟨m17, fun y => mid 0 _ _ (by omega) (by omega) (Or.inl ⟨rfl, no6 ?_⟩), fun b19 y => ⟨m17, ?_⟩⟩⟩
  · rw [f5] at z
    exact (rfx_no (by omega) (ok 705 (by simp [rcPr]))).mp z
  · rw [f6] at y
    exact (rfx_no (by omega) (ok 706 (by simp [rcPr]))).mp y
  · rw [f5] at z
    rw [f6] at y
    rcases rfx_ok (ad := A 0) (by omega) (ok 705 (by simp [rcPr])) with ⟨u1, u2⟩ | ⟨u, hu, u1, u2⟩
    · rw [u2] at z; cases z
    rcases rfx_ok (ad := A 0) (by omega) (ok 706 (by simp [rcPr])) with ⟨v1, v2⟩ | ⟨v, hv, v1, v2⟩
    · rw [v2] at y; cases y
    rw [u2] at z
    rw [v2] at y
    have z : A 0 u = b18 := Option.some.inj z
    have y : A 0 v = b19 := Option.some.inj y
    subst z; subst y
    have uc : (sa σ 705 p).toNatClampNeg = u := by rw [u1]; exact nI_clamp (by omega)
    have vc : (sa σ 706 p).toNatClampNeg = v := by rw [v1]; exact nI_clamp (by omega)
    have n5 : ¬ sa σ 705 p = -1 := by rw [u1]; exact fun z => nI_pos (by omega : u < 2 ^ 31) (z ▸ (by decide : (-1 : Int32) < 0))
    have n6 : ¬ sa σ 706 p = -1 := by rw [v1]; exact fun z => nI_pos (by omega : v < 2 ^ 31) (z ▸ (by decide : (-1 : Int32) < 0))
    obtain ⟨x1, x2, -⟩ := R17.2.2.2.1 u (by rw [c1]; exact hu)
    obtain ⟨y1, y2, -⟩ := R17.2.2.2.1 v (by rw [c1]; exact hv)
    have e700u : zi h17 700 (A 0 u) = sa σ 700 u := (x2 700 (by simp [rcPi])).trans ((c2 700 u).trans (a7 700 u (by omega)))
    have e700v : zi h17 700 (A 0 v) = sa σ 700 v := (y2 700 (by simp [rcPi])).trans ((c2 700 v).trans (a7 700 v (by omega)))
    refine ⟨by rw [y1]; decide, m17, by rw [x1]; decide, fun w => mid 0 _ _ (by omega) (by omega) (Or.inl ⟨rfl, fun q => ?_⟩), fun w => mid 1 _ _ (by omega) (by omega) (Or.inr ⟨rfl, n5, n6, ?_⟩)⟩
    · rw [e700u, e700v] at w
      have := q.2.2
      rw [uc, vc] at this
      exact this w
    · rw [e700u, e700v] at w
      rw [uc, vc]; exact w
/-- what a death does to a grave -/
def sDiesG (σ : ZS) (p k : Nat) : ZS := if sa σ 606 k = 1 ∧ sa σ 607 k = nI p then sOffers σ k p else if sa σ 606 k = 2 ∧ sa σ 609 k = nI p then sPass σ k (sa σ 203 0) (sa σ 612 k + 1).toNatClampNeg else σ
def sDiesC (σ : ZS) (p : Nat) : Nat → Int32
  | 0 => 0
  | k + 1 => if sa σ 606 k = 1 ∧ sa σ 607 k = nI p then sDiesC σ p k + 1 else sDiesC σ p k
def sDiesAll (σ : ZS) (p : Nat) : Nat → ZS
  | 0 => σ
  | k + 1 => sDiesG (sDiesAll σ p k) p k
/-- the act 'dies' -/
def sDies (σ : ZS) (x : Int32) : Int32 × ZS := if (∃ j, j < sn σ 2 ∧ x = nI j) ∧ sa σ 702 x.toNatClampNeg = 0 then (sDiesC σ x.toNatClampNeg (sn σ 1), sDiesAll (sau σ 702 x.toNatClampNeg 1) x.toNatClampNeg (sn σ 1)) else (-1, σ)
theorem sDiesG_el {p k : Nat} : sn (sDiesG σ p k) = sn σ ∧ (∀ f i, ¬ (600 ≤ f ∧ f < 700 ∧ i = k) → sa (sDiesG σ p k) f i = sa σ f i) ∧ sy (sDiesG σ p k) = sy σ ∧ ∀ f i, ¬ (f = 0 ∧ i = k) → sl (sDiesG σ p k) f i = sl σ f i := by
  unfold sDiesG
  split
  · exact sOffers_el
  · split
    · refine ⟨rfl, fun f i q => ?_, rfl, fun _ _ _ => rfl⟩
      unfold sPass
      rw [sa_au, if_neg (by omega), sa_au, if_neg (by omega), sa_au, if_neg (by omega)]
    · exact ⟨rfl, fun _ _ _ => rfl, rfl, fun _ _ _ => rfl⟩
theorem sDiesAll_el {p : Nat} : ∀ k, sn (sDiesAll σ p k) = sn σ ∧ (∀ f i, ¬ (600 ≤ f ∧ f < 700 ∧ i < k) → sa (sDiesAll σ p k) f i = sa σ f i) ∧ sy (sDiesAll σ p k) = sy σ ∧ ∀ f i, ¬ (f = 0 ∧ i < k) → sl (sDiesAll σ p k) f i = sl σ f i := by
  intro k
  induction k with
  | zero => exact ⟨rfl, fun _ _ _ => rfl, rfl, fun _ _ _ => rfl⟩
  | succ k ih =>
    obtain ⟨i1, i2, i3, i4⟩ := ih
    obtain ⟨j1, j2, j3, j4⟩ := @sDiesG_el (sDiesAll σ p k) p k
    exact ⟨j1.trans i1, fun f i q => (j2 f i (by omega)).trans (i2 f i (by omega)), j3.trans i3, fun f i q => (j4 f i (by omega)).trans (i4 f i (by omega))⟩
theorem sDiesC_n {p : Nat} : ∀ k, ∃ c, c ≤ k ∧ sDiesC σ p k = nI c := by
  intro k
  induction k with
  | zero => exact ⟨0, Nat.le_refl _, rfl⟩
  | succ k ih =>
    obtain ⟨c, c1, c2⟩ := ih
    unfold sDiesC
    split
    · exact ⟨c + 1, by omega, by rw [c2, nI_1]⟩
    · exact ⟨c, by omega, c2⟩
theorem sp_dies (R : rcAll G F h0 A E h σ cb b) (W : sRef σ) (T : ∀ g, g < sn σ 1 → sTG σ g) {Q : Int32 → ZH → Prop} {XE : String → Nat → ZH → Prop} {bc bs : Nat} {x : Int32} (hc : sn σ 1 * (8 + 4 * sn σ 2) + 1 ≤ bc) (hs : sn σ 1 * (262 + 256 * sn σ 2) + 7 ≤ bs)
    (hX : ∀ v', sDies σ x = (v', σ) → v' < 0 → zXr XE h v')
    (hQ : ∀ r σ' A' E' h', sDies σ x = (r, σ') → ¬ r < 0 → rcAll G F h0 A' E' h' σ' cb b → Q r h') : fc_X5_dies G b Q XE h bc bs x := by
  have h40 := W.2.2.2.2.1 2
  have h41 := W.2.2.2.2.1 1
  have bad : ∀ q, ¬ ((∃ j, j < sn σ 2 ∧ x = nI j) ∧ sa σ 702 x.toNatClampNeg = 0) → fc_X5_dies_21 G b Q XE h bc bs q := fun q hn => ⟨bc, bs, Nat.le_refl _, Nat.le_refl _, sp_no (by omega) (by omega) (hX (-1) (by unfold sDies; rw [if_neg hn]) (by decide))⟩
  refine ⟨R.1.1, sp_person R (fun p hp ex => ⟨fun z => (nomatch z), fun b2 e2 => ?_⟩) (fun hno => ⟨fun z => bad _ fun q => hno q.1, fun b2 e2 => (nomatch e2)⟩)⟩
  have e2 : A 0 p = b2 := Option.some.inj e2
  subst e2
  have xc : x.toNatClampNeg = p := by rw [ex]; exact nI_clamp (by omega)
  rw [xc] at bad
  obtain ⟨p1, p2, -⟩ := R.2.2.2.1 p hp
  have m14 : zt h (A 0 p) ∈ [14] := by rw [p1]; decide
  have e702 : zi h 702 (A 0 p) = sa σ 702 p := p2 702 (by simp [rcPi])
  refine ⟨m14, fun w => bad _ fun q => w (e702.trans q.2), fun w => ?_⟩
  rw [e702] at w
  have base : sDies σ x = (sDiesC σ p (sn σ 1), sDiesAll (sau σ 702 p 1) p (sn σ 1)) := by unfold sDies; rw [xc, if_pos ⟨⟨p, hp, ex⟩, w⟩]
  refine ⟨0, 0, Nat.zero_le _, Nat.zero_le _, sp_ok ⟨_, rfl, m14, fun h6 e6 => ?_⟩⟩
  have R6 : rcAll G F h0 A E h6 (sau σ 702 p 1) cb b := e6 ▸ rc_Pi R hp (f := 702) (x := 1) (by simp [rcPi])
  have W6 : sRef (sau σ 702 p 1) := sRef_at W (fun k i hk => by rw [sa_au, if_neg (by simp at hk; omega)]) rfl rfl rfl
  have nn : ¬ sDiesC σ p (sn σ 1) < 0 := by
    obtain ⟨c, c1, c2⟩ := sDiesC_n (σ := σ) (p := p) (sn σ 1)
    rw [c2]; exact nI_pos (by omega)
  generalize hB : 8 + 4 * sn σ 2 = BC at *
  generalize hD : 262 + 256 * sn σ 2 = BS at *
  have loop : ∀ (n k : Nat) (E : Nat → Nat) (hh : ZH) (c1 s1 : Nat), k ≤ sn σ 1 → sn σ 1 + 1 ≤ k + n → (sn σ 1 - k) * BC ≤ c1 → (sn σ 1 - k) * BS ≤ s1 → rcAll G F h0 A E hh (sDiesAll (sau σ 702 p 1) p k) cb b → sRef (sDiesAll (sau σ 702 p 1) p k) → fc_X5_dies_36 G b Q XE n hh c1 s1 (some (A 0 p)) (sDiesC σ p k) (nI k) := by
    intro n
    induction n with
    | zero => intro k E hh c1 s1 h1 h2; omega
    | succ n ih =>
      intro k E hh c1 s1 h1 h2 h3 h4 Rk Wk
      obtain ⟨u1, u2, u3, u4⟩ := sDiesAll_el (σ := sau σ 702 p 1) (p := p) k
      have u1 : sn (sDiesAll (sau σ 702 p 1) p k) = sn σ := u1
      have hbk : zt hh b ∈ [4] := by rw [Rk.1.1]; decide
      have L1 := rc_ls Rk (j := 1) (Or.inl (by omega))
      have hlen : (rcCon A (sDiesAll (sau σ 702 p 1) p k) 1).length = sn σ 1 := by rw [rc_con1, u1]; simp
      refine ⟨hbk, A 5 1, Rk.1.2.2.2.2.1, L1.1, zl_size L1 ⟨fun z => ?_, fun z => ⟨hbk, L1.1, ?_⟩⟩⟩
      · rw [hlen] at z
        have ek : k = sn σ 1 := by have := (nI_leI (by omega) (by omega)).mp z; omega
        subst ek
        exact hQ _ _ A E hh base nn Rk
      · rw [hlen] at z
        have hk : k < sn σ 1 := Classical.byContradiction fun q => z (nI_le (by omega) (by omega))
        have hk' : k < sn (sDiesAll (sau σ 702 p 1) p k) 1 := by rw [u1]; exact hk
        have hp' : p < sn (sDiesAll (sau σ 702 p 1) p k) 2 := by rw [u1]; exact hp
        have eC : sDiesC σ p (k + 1) = if sa σ 606 k = 1 ∧ sa σ 607 k = nI p then sDiesC σ p k + 1 else sDiesC σ p k := rfl
        have eA : sDiesAll (sau σ 702 p 1) p (k + 1) = sDiesG (sDiesAll (sau σ 702 p 1) p k) p k := rfl
        unfold sDiesG at eA
        have at0 : ∀ f, 600 ≤ f → f < 700 → sa (sDiesAll (sau σ 702 p 1) p k) f k = sa σ f k := fun f h1 h2 => by rw [u2 f k (by omega), sa_au, if_neg (by omega)]
        have l0 : sl (sDiesAll (sau σ 702 p 1) p k) 0 k = sl σ 0 k := u4 0 k (by omega)
        have t203 : sa (sDiesAll (sau σ 702 p 1) p k) 203 0 = sa σ 203 0 := by rw [u2 203 0 (by omega), sa_au, if_neg (by omega)]
        have hm := rc_gt Rk hk'
        obtain ⟨g1, g2, g3, -⟩ := Rk.2.2.2.2.1 k hk'
        have e606 : zi hh 606 (A 1 k) = sa σ 606 k := (g2 606 (by simp [rcGi])).trans (at0 606 (by omega) (by omega))
        have inj := fun i j hi hj => rc_inj0 Rk (p := i) (q := j) hi hj
        have e607 : zr hh 607 (A 1 k) = some (A 0 p) ↔ sa σ 607 k = nI p := by
          rw [g3 607 (by simp [rcGr]), ← at0 607 (by omega) (by omega)]
          exact rfx_is (by rw [u1]; omega) (Wk.1.2 k hk' 607 (by simp [rcGr])) hp' inj
        have e609 : zr hh 609 (A 1 k) = some (A 0 p) ↔ sa σ 609 k = nI p := by
          rw [g3 609 (by simp [rcGr]), ← at0 609 (by omega) (by omega)]
          exact rfx_is (by rw [u1]; omega) (Wk.1.2 k hk' 609 (by simp [rcGr])) hp' inj
        have sC : (sn σ 1 - k) * BC = (sn σ 1 - (k + 1)) * BC + BC := by rw [show sn σ 1 - k = (sn σ 1 - (k + 1)) + 1 by omega, Nat.succ_mul]
        have sS : (sn σ 1 - k) * BS = (sn σ 1 - (k + 1)) * BS + BS := by rw [show sn σ 1 - k = (sn σ 1 - (k + 1)) + 1 by omega, Nat.succ_mul]
        rw [at0 606 (by omega) (by omega), at0 607 (by omega) (by omega), at0 609 (by omega) (by omega), at0 612 (by omega) (by omega), t203] at eA
        -- no heir-making here
        have other : ¬ (sa σ 606 k = 1 ∧ sa σ 607 k = nI p) → fc_X5_dies_93 G b Q XE (fun h9 c9 s9 y0 y1 y2 => fc_X5_dies_36 G b Q XE n h9 c9 s9 y0 y1 y2) hh c1 s1 (some (A 0 p)) (sDiesC σ p k) (nI k) (some (A 1 k)) := by
          intro hn
          rw [if_neg hn] at eC eA
          have stay : ¬ (sa σ 606 k = 2 ∧ sa σ 609 k = nI p) → fc_X5_dies_120 G b Q XE (fun h9 c9 s9 y0 y1 y2 => fc_X5_dies_36 G b Q XE n h9 c9 s9 y0 y1 y2) hh c1 s1 (some (A 0 p)) (sDiesC σ p k) (nI k) := by
            intro hn2 x1 e1
            rw [nI_1] at e1
            subst e1
            rw [if_neg hn2] at eA
            rw [← eC]
            exact ih (k + 1) E hh c1 s1 (by omega) (by omega) (by omega) (by omega) (by rw [eA]; exact Rk) (by rw [eA]; exact Wk)
          refine ⟨_, rfl, hm, fun y => stay fun q => y (e606.trans q.1), fun y => ⟨hm, fun y2 => stay fun q => y2 (e609.mpr q.2), fun y2 => ⟨hbk, ?_⟩⟩⟩
          rw [e606] at y
          rw [e609] at y2
          rw [if_pos ⟨y, y2⟩] at eA
          obtain ⟨j, j1, j2, j3⟩ := (T k hk).2.1 y
          have jc : (sa σ 612 k + 1).toNatClampNeg = j + 1 := by rw [j1, nI_1, nI_clamp (by omega)]
          rw [Rk.1.2.1, t203]
          rw [jc] at eA
          refine sp_pass Rk hk' (k := j + 1) (by rw [at0 612 (by omega) (by omega), j1, nI_1]) (by omega) (fun q hq => ?_) fun h2 R2 => ?_
          · rw [l0] at hq
            rw [u1]; exact (T k hk).2.2.2.1 q hq
          · intro x1 e1
            rw [nI_1] at e1
            subst e1
            rw [← eC]
            rw [← eA] at R2
            refine ih (k + 1) E h2 c1 s1 (by omega) (by omega) (by omega) (by omega) R2 ?_
            rw [eA]
            obtain ⟨⟨w1, w1'⟩, w2, w3, w4, w5, w6⟩ := Wk
            have sp : ∀ f i, ¬ (f = 612 ∨ f = 609 ∨ f = 610) → sa (sPass (sDiesAll (sau σ 702 p 1) p k) k (sa σ 203 0) (j + 1)) f i = sa (sDiesAll (sau σ 702 p 1) p k) f i := fun f i q => by
              unfold sPass
              rw [sa_au, if_neg (by omega), sa_au, if_neg (by omega), sa_au, if_neg (by omega)]
            refine ⟨⟨fun q hq => ⟨fun f hf => ?_, ?_⟩, fun q hq f hf => ?_⟩, w2, w3, fun r hr k' hk2 => ?_, w5, w6⟩
            · rw [sp f q (by simp [rcPr] at hf; omega)]; exact (w1 q hq).1 f hf
            · rw [sp 710 q (by omega)]; exact (w1 q hq).2
            · by_cases f9 : f = 609 ∧ q = k
              · rw [f9.1, f9.2, sPass_609]
                unfold sAtNo
                split
                · rename_i hlt
                  refine Or.inr ⟨_, (w2 k hk').1 _ ?_, rfl⟩
                  simp [hlt]
                · exact Or.inl rfl
              · have : sa (sPass (sDiesAll (sau σ 702 p 1) p k) k (sa σ 203 0) (j + 1)) f q = sa (sDiesAll (sau σ 702 p 1) p k) f q := by
                  unfold sPass
                  simp only [rcGr, List.mem_cons, List.not_mem_nil, or_false] at hf
                  rw [sa_au, if_neg (by omega), sa_au, if_neg (by omega), sa_au, if_neg (by omega)]
                rw [this]; exact w1' q hq f hf
            · obtain ⟨r1, r2, r3⟩ := hr
              rw [sp 502 _ (by omega)] at r2
              rw [sp 501 _ (by omega)] at r3
              rw [sp 6 _ (by omega)] at hk2
              rw [sp 8 _ (by omega)]
              exact w4 r ⟨r1, r2, r3⟩ k' hk2
        refine sp_gget Rk hk' ⟨fun b9 e9 => by cases e9; exact hm, _, rfl, hm, fun y => other fun q => y (e606.trans q.1), fun y => ⟨hm, fun y2 => other fun q => y2 (e607.mpr q.2), fun y2 => ⟨Rk.1.1, BC, BS, by omega, by omega, ?_⟩⟩⟩
        rw [e606] at y
        rw [e607] at y2
        rw [if_pos ⟨y, y2⟩] at eC eA
        refine sp_offers Rk Wk hk' hp' (by rw [u1, hB]; exact Nat.le_refl _) (by rw [u1, hD]; exact Nat.le_refl _) fun E7 h7 R7 O7 x8 e8 x1 e1 => ?_
        rw [nI_1] at e1
        subst e1
        rw [e8, ← eC]
        rw [← eA] at R7 O7
        refine ih (k + 1) E7 h7 _ _ (by omega) (by omega) (by omega) (by omega) R7 ?_
        obtain ⟨x1, x2, x3, x4⟩ := @sOffers_el (sDiesAll (sau σ 702 p 1) p k) k p
        rw [← eA] at x1 x2 x3 x4
        obtain ⟨⟨w1, w1'⟩, w2, w3, w4, w5, w6⟩ := Wk
        unfold sRef sWF
        rw [x1, x3]
        refine ⟨⟨fun q hq => ⟨fun f hf => ?_, ?_⟩, fun q hq f hf => ?_⟩, fun q hq => ⟨fun y hy => ?_, fun y hy => ?_⟩, w3, fun r hr k' hk2 => ?_, w5, w6⟩
        · rw [x2 f q (by simp [rcPr] at hf; omega)]; exact (w1 q hq).1 f hf
        · rw [x2 710 q (by omega)]; exact (w1 q hq).2
        · by_cases qk : q = k
          · rw [qk]
            obtain ⟨y1, y2, y3, y4, y5, X, y6, y7, y8⟩ := @sOffers_g (sDiesAll (sau σ 702 p 1) p k) k p
            rw [← eA] at y2 y4 y6
            simp only [rcGr, List.mem_cons, List.not_mem_nil, or_false] at hf
            rcases hf with z | z | z <;> subst z
            · rw [y2]; exact Or.inl rfl
            · have e9 : sa (sDiesAll (sau σ 702 p 1) p (k + 1)) 609 k = sAtNo (sl (sDiesAll (sau σ 702 p 1) p (k + 1)) 0 k) (sNext X (sl X 0 k) 64 0) := by rw [y6, sPass_609]; rfl
              rw [e9]
              unfold sAtNo
              split
              · rename_i hlt
                have := O7.2 _ (show (sl (sDiesAll (sau σ 702 p 1) p (k + 1)) 0 k).getD (sNext X (sl X 0 k) 64 0) 0 ∈ sl (sDiesAll (sau σ 702 p 1) p (k + 1)) 0 k from by simp [hlt])
                rw [x1] at this
                exact Or.inr ⟨_, this, rfl⟩
              · exact Or.inl rfl
            · rw [y4]; exact Or.inr ⟨p, hp', rfl⟩
          · rw [x2 f q (fun z => qk z.2.2)]; exact w1' q hq f hf
        · by_cases qk : q = k
          · rw [qk] at hy
            have := O7.2 y hy
            rw [x1] at this; exact this
          · rw [x4 0 q (fun z => qk z.2)] at hy; exact (w2 q hq).1 y hy
        · rw [x4 1 q (by omega)] at hy; exact (w2 q hq).2 y hy
        · obtain ⟨r1, r2, r3⟩ := hr
          rw [x1] at r1
          rw [x2 502 _ (by omega)] at r2
          rw [x2 501 _ (by omega)] at r3
          rw [x2 6 _ (by omega)] at hk2
          rw [x2 8 _ (by omega)]
          exact w4 r ⟨r1, r2, r3⟩ k' hk2
  exact ⟨sn σ 1 + 1, loop _ 0 E h6 _ _ (by omega) (by omega) (by show sn σ 1 * BC ≤ bc; omega) (by show sn σ 1 * BS ≤ bs; omega) R6 W6⟩
end ZDI
