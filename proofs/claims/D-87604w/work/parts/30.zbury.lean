/-! METHODS of the component on the picture of a book: the act 'bury'. -/
set_option maxRecDepth 100000
section ZBU
variable {G : Nat × Nat × Nat} {F : Nat → Prop} {h0 h h' : ZH} {A A' : ZA} {E E' : Nat → Nat} {σ σ' : ZS} {cb b : Nat} {C : Nat → List Nat}
theorem rc_sty (R : rcAll G F h0 A E h σ cb b) {p : Nat} (hp : p < sn σ 2) : zL h (A 5 (3 + 3 * p)) (E (3 + 3 * p)) ((List.range (sy σ p).length).map (fun k => A 8 (1000 * p + k))) := by
  have L := rc_ls R (j := 3 + 3 * p) (Or.inr (Or.inl ⟨by omega, by omega, by omega⟩))
  have e : rcCon A σ (3 + 3 * p) = (List.range (sy σ p).length).map (fun k => A 8 (1000 * p + k)) := by
    unfold rcCon
    rw [if_neg (by omega), if_neg (by omega), if_neg (by omega), if_pos (by omega), show (3 + 3 * p - 3) / 3 = p by omega]
  rw [e] at L; exact L
/-- one stay more -/
def sStay (σ : ZS) (p : Nat) (day t : Int32) : ZS := syu σ p (sy σ p ++ [(day, t)])
theorem sp_stay (R : rcAll G F h0 A E h σ cb b) (W : sRef σ) {Q : ZH → Prop} {p bc bs : Nat} {day t : Int32} {q2 : Option Nat} (hp : p < sn σ 2) (y40 : (sy σ p).length ≤ 40) (hq : q2 = rfx (A 1) t) (hc : 2 ≤ bc) (hs : 66 ≤ bs)
    (hQ : ∀ A' E' h', rcAll G F h0 A' E' h' (sStay σ p day t) cb b → (∀ k i, k < 8 → A' k i = A k i) → Q h') : fc_X16_lies_20 G (A 0 p) Q h bc bs day q2 := by
  obtain ⟨p1, p2, p3, p4, p5⟩ := R.2.2.2.1 p hp
  have m14 : zt h (A 0 p) ∈ [14] := by rw [p1]; decide
  refine ⟨m14, by omega, by omega, fun a1 h2 z e2 => ?_⟩
  have t1 : zt h2 a1 = 15 := by rw [e2, zt_new, if_pos rfl]
  refine ⟨by rw [t1]; decide, fun h3 e3 => ⟨by rw [e3, zt_pi, t1]; decide, fun h4 e4 => ?_⟩⟩
  have T4 : zt h4 a1 = 15 := by rw [e4, zt_pr, e3, zt_pi]; exact t1
  have fr : zFr h h4 := by rw [e4, e3, e2]; exact zFr.pr z (zFr.pi z (zFr.new z))
  have g1 : rcAg σ σ A (upA A 8 (1000 * p + (sy σ p).length) a1) E E := by
    refine ⟨fun _ => rfl, fun _ _ _ => rfl, fun _ _ _ => rfl, fun _ _ => rfl, fun k i hk => ?_, fun _ _ => rfl⟩
    unfold upA
    rw [if_neg]
    rintro ⟨rfl, rfl⟩
    unfold sIdx at hk
    have e1 : (1000 * p + (sy σ p).length) / 1000 = p := by omega
    have e2 : (1000 * p + (sy σ p).length) % 1000 = (sy σ p).length := by omega
    rw [e1, e2] at hk
    omega
  have R1 : rcAll G F h0 (upA A 8 (1000 * p + (sy σ p).length) a1) E h4 σ cb b := ((rc_ag g1 W R.toC).fr fr).all fun j hj => (g1.con W hj).symm
  have A5 : ∀ k, ¬ k = 8 → upA A 8 (1000 * p + (sy σ p).length) a1 k = A k := fun k hk => upA_k hk
  have A8 : upA A 8 (1000 * p + (sy σ p).length) a1 8 (1000 * p + (sy σ p).length) = a1 := upA_at
  generalize hA' : upA A 8 (1000 * p + (sy σ p).length) a1 = A' at *
  have L := rc_sty R1 hp
  rw [A5 5 (by decide)] at L
  have lv : rcLive σ (3 + 3 * p) := Or.inr (Or.inl ⟨by omega, by omega, by omega⟩)
  refine ⟨_, p5, L.1, 1, 64, by omega, by omega, zl_add L (by simp; omega) (by rw [T4]; decide) (Nat.le_refl _) (Nat.le_refl _) fun e' h8 hL hA => ?_⟩
  rw [← A5 5 (by decide)] at hL hA
  have R2 := rc_LC R1.toC lv hL hA
  have nz : zt h4 a1 ≠ 0 := by rw [T4]; decide
  have na : a1 ≠ A' 5 (3 + 3 * p) := fun q => by
    rw [A5 5 (by decide)] at q
    have := L.1
    rw [← q, T4] at this; omega
  have R3 := rc_incS R2 (p := p) (k := (sy σ p).length) (d := day) (t := t) rfl (by rw [A8, (hA.1 a1 nz).1]; exact T4)
    (by rw [A8, (hA.2.1 a1 nz na 800).1, e4, zi_pr, e3, zi_pi, if_pos ⟨rfl, rfl⟩])
    (by rw [A8, (hA.2.1 a1 nz na 801).2, e4, zr_pr, if_pos ⟨rfl, rfl⟩, hq, A5 1 (by decide)])
  refine hQ A' _ h8 (R3.all fun j hj => ?_) (fun k i hk => by rw [A5 k (by omega)])
  have hj : rcLive σ j := hj
  unfold rcCon
  by_cases hj3 : j = 3 + 3 * p
  · rw [upC_eq hj3, hj3, if_neg (by omega), if_neg (by omega), if_neg (by omega), if_pos (by omega), show (3 + 3 * p - 3) / 3 = p by omega, sy_yu, if_pos rfl, List.length_append, List.length_singleton, List.range_succ, List.map_append, List.map_cons, List.map_nil, A8]
  · rw [upC_ne hj3]
    by_cases h4 : j % 3 = 0 ∧ 3 ≤ j
    · rw [if_neg (by omega), if_neg (by omega), if_neg (by omega), if_pos h4.1, if_neg (by omega), if_neg (by omega), if_neg (by omega), if_pos h4.1, sy_yu, if_neg (by unfold rcLive at hj; omega)]
    · simp only [sn_yu, sl_yu]
      by_cases j0 : j = 0
      · rw [if_pos j0, if_pos j0]
      rw [if_neg j0, if_neg j0]
      by_cases j1 : j = 1
      · rw [if_pos j1, if_pos j1]
      rw [if_neg j1, if_neg j1]
      by_cases j2 : j = 2
      · rw [if_pos j2, if_pos j2]
      rw [if_neg j2, if_neg j2, if_neg (show ¬ j % 3 = 0 by omega), if_neg (show ¬ j % 3 = 0 by omega)]
/-- somebody comes to lie in a grave -/
def sLie (σ : ZS) (g p : Nat) (day c d : Int32) : ZS := sStay (sau (sau (sau σ 710 p (nI g)) 711 p c) 712 p d) p day (nI g)
theorem sp_lie (R : rcAll G F h0 A E h σ cb b) (W : sRef σ) {Q : ZH → Prop} {g p bc bs : Nat} {day c d : Int32} (hp : p < sn σ 2) (y40 : (sy σ p).length ≤ 40) (hg : g < sn σ 1) (hc : 2 ≤ bc) (hs : 66 ≤ bs)
    (hQ : ∀ A' E' h', rcAll G F h0 A' E' h' (sLie σ g p day c d) cb b → (∀ k i, k < 8 → A' k i = A k i) → Q h') : fc_X16_lies G (A 0 p) Q h bc bs day (some (A 1 g)) c d := by
  have h41 := W.2.2.2.2.1 1
  have m14 : zt h (A 0 p) ∈ [14] := by rw [(R.2.2.2.1 p hp).1]; decide
  have rg : some (A 1 g) = rfx (A 1) (nI g) := (rfx_some _ (by omega)).symm
  refine ⟨m14, fun h1 e1 => ⟨fun z => (nomatch z), fun b2 e2 => ?_⟩⟩
  rw [rg] at e1
  have R1 : rcAll G F h0 A E h1 _ cb b := e1 ▸ rc_Pg R hp (f := 710) (x := nI g) rfl
  have m1 : zt h1 (A 0 p) ∈ [14] := by rw [(R1.2.2.2.1 p hp).1]; decide
  refine ⟨m1, fun h3 e3 => ?_⟩
  have R3 : rcAll G F h0 A E h3 _ cb b := e3 ▸ rc_Pi R1 hp (f := 711) (x := c) (by simp [rcPi])
  have m3 : zt h3 (A 0 p) ∈ [14] := by rw [(R3.2.2.2.1 p hp).1]; decide
  refine ⟨m3, fun h4 e4 => ?_⟩
  have R4 : rcAll G F h0 A E h4 (sau (sau (sau σ 710 p (nI g)) 711 p c) 712 p d) cb b := e4 ▸ rc_Pi R3 hp (f := 712) (x := d) (by simp [rcPi])
  have W4 : sRef (sau (sau (sau σ 710 p (nI g)) 711 p c) 712 p d) := by
    obtain ⟨⟨w1, w1'⟩, w2, w3, w4, w5, w6⟩ := W
    refine ⟨⟨fun q hq => ⟨fun f hf => ?_, ?_⟩, fun q hq f hf => ?_⟩, w2, w3, fun r hr k hk => ?_, w5, w6⟩
    · rw [sa_au, if_neg (by simp [rcPr] at hf; omega), sa_au, if_neg (by simp [rcPr] at hf; omega), sa_au, if_neg (by simp [rcPr] at hf; omega)]; exact (w1 q hq).1 f hf
    · rw [sa_au, if_neg (by omega), sa_au, if_neg (by omega), sa_au]
      by_cases hqp : q = p
      · rw [if_pos ⟨rfl, hqp⟩]; exact Or.inr ⟨g, hg, rfl⟩
      · rw [if_neg (fun z => hqp z.2)]; exact (w1 q hq).2
    · rw [sa_au, if_neg (by simp [rcGr] at hf; omega), sa_au, if_neg (by simp [rcGr] at hf; omega), sa_au, if_neg (by simp [rcGr] at hf; omega)]; exact w1' q hq f hf
    · have e : ∀ k i, k < 700 → sa (sau (sau (sau σ 710 p (nI g)) 711 p c) 712 p d) k i = sa σ k i := fun k i hk => by rw [sa_au, if_neg (by omega), sa_au, if_neg (by omega), sa_au, if_neg (by omega)]
      have hr' : rcRowLive σ r := by
        obtain ⟨r1, r2, r3⟩ := hr
        rw [e 502 _ (by omega)] at r2
        rw [e 501 _ (by omega)] at r3
        exact ⟨r1, r2, r3⟩
      rw [e 6 _ (by omega)] at hk
      rw [e 8 _ (by omega)]
      exact w4 r hr' k hk
  exact sp_stay R4 W4 (t := nI g) hp y40 (by rw [← rg]) hc hs hQ
/-- somebody's bones go down, if anybody lies there -/
def sEarth (σ : ZS) (g : Nat) (c : Int32) (e : Nat) : ZS := match sIn σ g c (nI e) with
  | none => σ
  | some q => sau σ 712 q 2
def sEar (σ : ZS) (g : Nat) (c : Int32) : Nat → ZS
  | 0 => σ
  | j + 1 => sEarth (sEar σ g c j) g c j
theorem sEar_el {g : Nat} {c : Int32} : ∀ j, (∀ k i, ¬ k = 712 → sa (sEar σ g c j) k i = sa σ k i) ∧ sl (sEar σ g c j) = sl σ ∧ sn (sEar σ g c j) = sn σ ∧ sy (sEar σ g c j) = sy σ := by
  intro j
  induction j with
  | zero => exact ⟨fun _ _ _ => rfl, rfl, rfl, rfl⟩
  | succ j ih =>
    obtain ⟨i1, i2, i3, i4⟩ := ih
    show (∀ k i, ¬ k = 712 → sa (sEarth (sEar σ g c j) g c j) k i = sa σ k i) ∧ sl (sEarth (sEar σ g c j) g c j) = sl σ ∧ sn (sEarth (sEar σ g c j) g c j) = sn σ ∧ sy (sEarth (sEar σ g c j) g c j) = sy σ
    unfold sEarth
    split
    · exact ⟨i1, i2, i3, i4⟩
    · refine ⟨fun k i hk => ?_, i2, i3, i4⟩
      rw [sa_au, if_neg (fun q => hk q.1)]; exact i1 k i hk
/-- the references stay right where only other attributes were written -/
theorem sRef_at (W : sRef σ) (ha : ∀ k i, (k ∈ [704, 705, 706, 707, 710, 607, 609, 614, 502, 501, 6, 8]) → sa σ' k i = sa σ k i) (hl : sl σ' = sl σ) (hn : sn σ' = sn σ) (hy : sy σ' = sy σ) : sRef σ' := by
  obtain ⟨⟨w1, w1'⟩, w2, w3, w4, w5, w6⟩ := W
  unfold sRef sWF
  rw [hl, hn, hy]
  refine ⟨⟨fun q hq => ⟨fun f hf => ?_, ?_⟩, fun q hq f hf => ?_⟩, w2, w3, fun r hr k hk => ?_, w5, w6⟩
  · rw [ha f q (by simp [rcPr] at hf; simp; omega)]; exact (w1 q hq).1 f hf
  · rw [ha 710 q (by decide)]; exact (w1 q hq).2
  · rw [ha f q (by simp [rcGr] at hf; simp; omega)]; exact w1' q hq f hf
  · obtain ⟨r1, r2, r3⟩ := hr
    rw [hn] at r1
    rw [ha 502 _ (by decide)] at r2
    rw [ha 501 _ (by decide)] at r3
    rw [ha 6 _ (by decide)] at hk
    rw [ha 8 _ (by decide)]
    exact w4 r ⟨r1, r2, r3⟩ k hk
theorem sRef_ll (W : sRef σ) {k g : Nat} {l : List Nat} (hk : k < 2) (hl : ∀ p ∈ l, p < sn σ 2) : sRef (slu σ k g l) := by
  obtain ⟨w1, w2, w3, w4, w5, w6⟩ := W
  refine ⟨w1, fun q hq => ⟨fun p hp => ?_, fun p hp => ?_⟩, w3, w4, w5, w6⟩
  · rw [sl_lu] at hp
    by_cases e : 0 = k ∧ q = g
    · rw [if_pos e] at hp; exact hl p hp
    · rw [if_neg e] at hp; exact (w2 q hq).1 p hp
  · rw [sl_lu] at hp
    by_cases e : 1 = k ∧ q = g
    · rw [if_pos e] at hp; exact hl p hp
    · rw [if_neg e] at hp; exact (w2 q hq).2 p hp
/-- laid into a grave at a depth -/
def sPutG (σ : ZS) (g p : Nat) (day c : Int32) (d : Nat) : ZS := if sa σ 10 g = 5 then sLie (slu σ 1 g (sl σ 1 g ++ [p])) g p day 0 0 else sLie (slu (sEar σ g c (d + 1)) 1 g (sl σ 1 g ++ [p])) g p day c (nI d)
theorem sp_put (R : rcAll G F h0 A E h σ cb b) (W : sRef σ) {Q : ZH → Prop} {g p d bc bs : Nat} {day c : Int32} (hp : p < sn σ 2) (y40 : (sy σ p).length ≤ 40) (hg : g < sn σ 1) (hd : d ≤ 1) (hl : (sl σ 1 g).length ≤ 40) (hc : 3 ≤ bc) (hs : 130 ≤ bs)
    (hQ : ∀ A' E' h', rcAll G F h0 A' E' h' (sPutG σ g p day c d) cb b → (∀ k i, k < 8 → A' k i = A k i) → Q h') : fv_put_19 G (A 1 g) Q h bc bs (some (A 0 p)) c (nI d) day := by
  have hm := rc_gt R hg
  obtain ⟨g1, g2, g3, g4, g5, g6⟩ := R.2.2.2.2.1 g hg
  -- one more in the list, then it lies there
  have fin : ∀ (σ1 : ZS) (hh : ZH) (c' d' : Int32), sn σ1 = sn σ → sl σ1 = sl σ → sy σ1 = sy σ → sRef σ1 → rcAll G F h0 A E hh σ1 cb b → (∀ A' E' h', rcAll G F h0 A' E' h' (sLie (slu σ1 1 g (sl σ 1 g ++ [p])) g p day c' d') cb b → (∀ k i, k < 8 → A' k i = A k i) → Q h') →
      ∃ b1 : Nat, (zr hh 615 (A 1 g)) = some b1 ∧ (zt hh b1 = 5 ∧ (∃ c2 s3 : Nat, c2 ≤ bc ∧ s3 ≤ bs ∧ fc_J2_add G b1 (fun z4 h5 => ∃ b6 : Nat, some (A 0 p) = some b6 ∧ (zt h5 b6 = 14 ∧ (∃ c7 s8 : Nat, c7 ≤ (bc - c2) ∧ s8 ≤ (bs - s3) ∧ fc_X16_lies G b6 (fun h9 => Q h9) h5 c7 s8 day (some (A 1 g)) c' d'))) hh c2 s3 (some (A 0 p)))) := by
    intro σ1 hh c' d' hn hsl hsy W1 R1 hQ1
    have hg1 : g < sn σ1 1 := by rw [hn]; exact hg
    have hp1 : p < sn σ1 2 := by rw [hn]; exact hp
    have L := rc_lyi R1 hg1
    refine ⟨_, (R1.2.2.2.2.1 g hg1).2.2.2.2.1, L.1, 1, 64, by omega, by omega, zl_add L (by rw [hsl]; simpa using hl) (by rw [(R1.2.2.2.1 p hp1).1]; decide) (Nat.le_refl _) (Nat.le_refl _) fun e' h5 hL hA => ?_⟩
    have R5 := rc_L R1 (k := 1) (l := sl σ1 1 g ++ [p]) (by omega) hg1 (by omega) (by rw [List.map_append, List.map_cons, List.map_nil]) hL hA
    rw [hsl] at R5
    have W5 : sRef (slu σ1 1 g (sl σ 1 g ++ [p])) := sRef_ll W1 (by omega) fun q hq => by
      rw [hn]
      rcases List.mem_append.mp hq with z | z
      · exact (W.2.1 g hg).2 q z
      · rw [List.mem_singleton.mp z]; exact hp
    exact ⟨_, rfl, (R5.2.2.2.1 p hp1).1, 2, 66, by omega, by omega, sp_lie R5 W5 hp1 (by show (sy σ1 p).length ≤ 40; rw [hsy]; exact y40) hg1 (Nat.le_refl _) (Nat.le_refl _) hQ1⟩
  unfold sPutG at hQ
  refine ⟨hm, fun w => ?_, fun w => ⟨w, ?_⟩⟩
  · have h5 : ¬ sa σ 10 g = 5 := fun q => by rw [g1, rcKind_12.mpr q] at w; exact absurd w (by decide)
    rw [if_neg h5] at hQ
    have loop : ∀ (n j : Nat) (hh : ZH), j ≤ d + 1 → d + 2 ≤ j + n → rcAll G F h0 A E hh (sEar σ g c j) cb b → fc_X9_put_3 G (A 1 g) Q n hh bc bs (some (A 0 p)) c (nI d) day (nI j) := by
      intro n
      induction n with
      | zero => intro j hh h1 h2; omega
      | succ n ih =>
        intro j hh h1 h2 Rj
        obtain ⟨u1, u2, u3, u4⟩ := sEar_el (σ := σ) (g := g) (c := c) j
        have hgj : g < sn (sEar σ g c j) 1 := by rw [u3]; exact hg
        have Wj : sRef (sEar σ g c j) := sRef_at W (fun k i hk => u1 k i (by simp at hk; omega)) u2 u3 u4
        refine ⟨fun z => ⟨rc_gt Rj hgj, ?_⟩, fun z => ?_⟩
        · have ej : j = d + 1 := by
            have : d < j := (nI_ltI (by omega) (by omega)).mp z
            omega
          subst ej
          exact fin _ hh c (nI d) u3 u2 u4 Wj Rj hQ
        · have hjd : j ≤ d := Classical.byContradiction fun q => z (nI_lt (by omega) (by omega))
          have hly : ∀ p ∈ sl (sEar σ g c j) 1 g, p < sn (sEar σ g c j) 2 := (Wj.2.1 g hgj).2
          refine sp_in Rj hgj hly ?_
          have e1 : sEar σ g c (j + 1) = sEarth (sEar σ g c j) g c j := rfl
          unfold sEarth at e1
          cases hs : sIn (sEar σ g c j) g c (nI j) with
          | none =>
            rw [hs] at e1
            refine ⟨fun _ x1 ex => ?_, fun b11 e11 => (nomatch e11)⟩
            rw [nI_1] at ex
            subst ex
            exact ih (j + 1) hh (by omega) (by omega) (by rw [e1]; exact Rj)
          | some q =>
            rw [hs] at e1
            have hq := hly q (sIn_mem hs).1
            refine ⟨fun y => (nomatch y), fun b11 e11 => ?_⟩
            have e11 : A 0 q = b11 := Option.some.inj e11
            subst e11
            refine ⟨by rw [(Rj.2.2.2.1 q hq).1]; decide, fun h12 e12 x1 ex => ?_⟩
            rw [nI_1] at ex
            subst ex
            exact ih (j + 1) h12 (by omega) (by omega) (by rw [e1, e12]; exact rc_Pi Rj hq (f := 712) (x := 2) (by simp [rcPi]))
    exact ⟨d + 2, loop (d + 2) 0 h (by omega) (by omega) R⟩
  · have h5 : sa σ 10 g = 5 := rcKind_12.mp (by rw [← g1]; simpa using w)
    rw [if_pos h5] at hQ
    exact fin σ h 0 0 rfl rfl rfl W R hQ
/-- what 'laid' asks for: years, and the price -/
def sYrs (σ : ZS) (g p : Nat) : Int32 := if sa σ 10 g = 5 then 0 else sLacks σ g (sa σ 709 p)
def sLaid (σ : ZS) (g p : Nat) (c k : Int32) : Int32 × ZS :=
  (((if k = 0 then 60 else if k = 1 then 25 else 30) + (if sRoom σ g c (sa σ 203 0) = 1 then 20 else 0)) + sYrs σ g p * sYearly σ g,
   sPutG (sau σ 608 g (sa σ 608 g + 365 * sYrs σ g p)) g p (sa σ 203 0) c (sRoom σ g c (sa σ 203 0)).toNatClampNeg)
theorem sRoom_01 {g : Nat} {c t : Int32} (h : ¬ sRoom σ g c t < 0) : sRoom σ g c t = nI (sRoom σ g c t).toNatClampNeg ∧ (sRoom σ g c t).toNatClampNeg ≤ 1 := by
  unfold sRoom at h ⊢
  by_cases k5 : sa σ 10 g = 5
  · rw [if_pos k5] at h ⊢
    by_cases q : 40 ≤ nI (sl σ 1 g).length
    · rw [if_pos q] at h; exact absurd (by decide) h
    · rw [if_neg q]; decide
  rw [if_neg k5] at h ⊢
  by_cases k4 : sa σ 10 g = 4
  · rw [if_pos k4] at h ⊢
    by_cases q : sIn σ g c 0 = none
    · rw [if_pos q]; decide
    · rw [if_neg q] at h; exact absurd (by decide) h
  rw [if_neg k4] at h ⊢
  by_cases o : sOpen σ g c 0 t
  · rw [if_pos o] at h ⊢
    by_cases q : (sa σ 10 g = 2 ∨ sa σ 10 g = 3) ∧ sOpen σ g c 1 t
    · rw [if_pos q]; decide
    · rw [if_neg q]; decide
  · rw [if_neg o] at h; exact absurd (by decide) h
theorem sp_laid (R : rcAll G F h0 A E h σ cb b) (W : sRef σ) {Q : Int32 → ZH → Prop} {g p bc bs : Nat} {c k : Int32} (hp : p < sn σ 2) (y40 : (sy σ p).length ≤ 40) (hg : g < sn σ 1) (hr : ¬ sRoom σ g c (sa σ 203 0) < 0) (hl : (sl σ 1 g).length ≤ 40) (hc : 3 ≤ bc) (hs : 130 ≤ bs)
    (hQ : ∀ A' E' h', rcAll G F h0 A' E' h' (sLaid σ g p c k).2 cb b → (∀ k i, k < 8 → A' k i = A k i) → Q (sLaid σ g p c k).1 h') : fc_X5_laid G b Q h bc bs (some (A 1 g)) c (some (A 0 p)) k := by
  have hb4 : zt h b ∈ [4] := by rw [R.1.1]; decide
  obtain ⟨p1, p2, p3, p4, p5⟩ := R.2.2.2.1 p hp
  have m14 : zt h (A 0 p) ∈ [14] := by rw [p1]; decide
  have e709 : zi h 709 (A 0 p) = sa σ 709 p := p2 709 (by simp [rcPi])
  have hm := rc_gt R hg
  have e608 : zi h 608 (A 1 g) = sa σ 608 g := (R.2.2.2.2.1 g hg).2.1 608 (by simp [rcGi])
  obtain ⟨rd, rd1⟩ := sRoom_01 hr
  have go : ∀ v5, v5 = sYrs σ g p → fc_X5_laid_19 G b Q h bc bs (some (A 1 g)) c (some (A 0 p)) k v5 := by
    intro v5 ev
    subst ev
    refine ⟨hb4, _, rfl, ?_⟩
    rw [R.1.2.1]
    refine sp_room R W hg ⟨hm, hm, fun h3 e3 => ?_⟩
    rw [e608] at e3
    have R3 : rcAll G F h0 A E h3 (sau σ 608 g (sa σ 608 g + 365 * sYrs σ g p)) cb b := e3 ▸ rc_Gi R hg (f := 608) (x := sa σ 608 g + 365 * sYrs σ g p) (by simp [rcGi])
    have W3 : sRef (sau σ 608 g (sa σ 608 g + 365 * sYrs σ g p)) := sRef_at W (fun k i hk => by rw [sa_au, if_neg (by simp at hk; omega)]) rfl rfl rfl
    have z203 : zi h3 203 b = sa σ 203 0 := R3.1.2.1
    refine ⟨by rw [R3.1.1]; decide, 3, 130, hc, hs, ?_⟩
    rw [z203, rd]
    refine sp_put R3 W3 hp y40 hg rd1 hl (Nat.le_refl _) (Nat.le_refl _) fun A' E' h6 R6 hA' => ?_
    have hQ := hQ A' E' h6 R6 hA'
    have hg6 : g < sn (sLaid σ g p c k).2 1 := by
      have : sn (sLaid σ g p c k).2 = sn σ := by
        unfold sLaid sPutG sLie sStay
        simp only []
        split
        · rfl
        · exact (sEar_el _).2.2.1
      rw [this]; exact hg
    have hy : sYearly (sLaid σ g p c k).2 g = sYearly σ g := by
      have e : ∀ k', k' < 608 → sa (sLaid σ g p c k).2 k' g = sa σ k' g := by
        intro k' hk'
        unfold sLaid sPutG sLie sStay
        simp only []
        split
        · rw [sa_yu, sa_au, if_neg (by omega), sa_au, if_neg (by omega), sa_au, if_neg (by omega), sa_lu, sa_au, if_neg (by omega)]
        · rw [sa_yu, sa_au, if_neg (by omega), sa_au, if_neg (by omega), sa_au, if_neg (by omega), sa_lu, (sEar_el _).1 k' g (by omega), sa_au, if_neg (by omega)]
      unfold sYearly
      rw [e 10 (by omega), e 604 (by omega)]
    have tl : ∀ t0 t1, t0 = (if k = 0 then 60 else if k = 1 then 25 else 30) → t1 = (if sRoom σ g c (sa σ 203 0) = 1 then 20 else 0) → fc_X5_laid_94 G b Q h6 (bc - 3) (bs - 130) (some (A 1 g)) (sYrs σ g p) t0 t1 := by
      intro t0 t1 e0 e1
      refine ⟨_, rfl, ?_⟩
      rw [← hA' 1 g (by omega)]
      refine sp_yearly R6 hg6 ?_
      show Q ((t0 + t1) + sYrs σ g p * sYearly (sLaid σ g p c k).2 g) h6
      rw [hy, e0, e1]; exact hQ
    have tl2 : ∀ t0, t0 = (if k = 0 then 60 else if k = 1 then 25 else 30) → fc_X5_laid_82 G b Q h6 (bc - 3) (bs - 130) (some (A 1 g)) (sYrs σ g p) (nI (sRoom σ g c (sa σ 203 0)).toNatClampNeg) t0 := by
      intro t0 e0
      rw [← rd]
      exact ⟨fun z => tl t0 0 e0 (by rw [if_neg z]), fun z => tl t0 20 e0 (by rw [if_pos z])⟩
    exact ⟨fun z => ⟨fun z2 => tl2 30 (by rw [if_neg z, if_neg z2]), fun z2 => tl2 25 (by rw [if_neg z, if_pos z2])⟩, fun z => tl2 60 (by rw [if_pos z])⟩
  refine ⟨_, rfl, sp_needs R hg ?_⟩
  by_cases k5 : sa σ 10 g = 5
  · rw [if_pos k5]
    exact ⟨fun _ => go 0 (by unfold sYrs; rw [if_pos k5]), fun z => absurd rfl z⟩
  · rw [if_neg k5]
    refine ⟨fun z => absurd z (by decide), fun _ => ⟨_, rfl, m14, sp_lacks R hg (go _ ?_)⟩⟩
    unfold sYrs
    rw [if_neg k5, e709]
/-- the act 'bury' -/
def sBury0 (σ : ZS) (g j : Nat) (k : Int32) : ZS := sau (sau σ 708 j k) 709 j (sEnd σ g k)
def sBuryG (σ : ZS) (g j : Nat) (c k : Int32) : Int32 × ZS :=
  ((sLaid (sBury0 σ g j k) g j c k).1, sau (sLaid (sBury0 σ g j k) g j c k).2 204 0 (sa (sLaid (sBury0 σ g j k) g j c k).2 204 0 + (sLaid (sBury0 σ g j k) g j c k).1))
def sBury (σ : ZS) (x c p k : Int32) : Int32 × ZS := if sWhy σ x c p k = 0 then sBuryG σ x.toNatClampNeg p.toNatClampNeg c k else (-sWhy σ x c p k, σ)
theorem find_congr {l : List Nat} {f g : Nat → Bool} (h : ∀ q ∈ l, f q = g q) : l.find? f = l.find? g := by
  induction l with
  | nil => rfl
  | cons a l ih =>
    rw [List.find?_cons, List.find?_cons, h a (List.mem_cons_self), ih fun q hq => h q (List.mem_cons_of_mem _ hq)]
theorem sIn_congr {g : Nat} {c d : Int32} (hl : sl σ' 1 g = sl σ 1 g) (ha : ∀ q ∈ sl σ 1 g, sa σ' 711 q = sa σ 711 q ∧ sa σ' 712 q = sa σ 712 q) : sIn σ' g c d = sIn σ g c d := by
  unfold sIn
  rw [hl]
  exact find_congr fun q hq => by rw [(ha q hq).1, (ha q hq).2]
theorem sRoom_congr {g : Nat} {c t : Int32} (hk : sa σ' 10 g = sa σ 10 g) (hl : sl σ' 1 g = sl σ 1 g) (ha : ∀ q ∈ sl σ 1 g, sa σ' 711 q = sa σ 711 q ∧ sa σ' 712 q = sa σ 712 q ∧ sa σ' 709 q = sa σ 709 q ∧ sa σ' 710 q = sa σ 710 q) : sRoom σ' g c t = sRoom σ g c t := by
  have hi : ∀ d, sIn σ' g c d = sIn σ g c d := fun d => sIn_congr hl fun q hq => ⟨(ha q hq).1, (ha q hq).2.1⟩
  have ho : ∀ d, sOpenB σ' g c d t = sOpenB σ g c d t := fun d => by
    unfold sOpenB
    rw [hi d]
    cases hs : sIn σ g c d with
    | none => rfl
    | some q =>
      have hq := (sIn_mem hs).1
      exact decide_eq_decide.mpr (by unfold sRests; rw [(ha q hq).2.2.1, (ha q hq).2.2.2])
  unfold sRoom sOpen
  rw [hk, hl, hi, ho, ho]
theorem sWhyG_r {g : Nat} {c k e mv : Int32} {q : Option Nat} (h : ¬ sWhyG σ g c q k e mv = 0) : -sWhyG σ g c q k e mv < 0 := by
  revert h
  unfold sWhyG
  split
  · intro _; decide
  split
  · intro _; decide
  split
  · intro _; decide
  repeat' split
  all_goals first | (intro _; decide) | (intro h; exact absurd rfl h)
theorem sWhyG_0 {g : Nat} {c k e mv : Int32} {q : Option Nat} (h : sWhyG σ g c q k e mv = 0) : ∃ p, q = some p ∧ ¬ sa σ 606 g = 4 ∧ (¬ c < 0 ∧ ¬ sColumns σ g ≤ c) ∧ ¬ k < 0 ∧ k ≤ 2 ∧ sTakesK σ g k ∧ (mv = 0 → ¬ sa σ 702 p = 0 ∧ sa σ 708 p = -1) ∧ (sa σ 10 g = 5 ∨ sa σ 606 g = 1) ∧ 0 ≤ sRoom σ g c (sa σ 203 0) ∧ (sa σ 10 g = 5 ∨ sAgreed σ g p ∧ sLacks σ g e ≤ 20) := by
  unfold sWhyG at h
  by_cases a1 : sa σ 606 g = 4
  · rw [if_pos a1] at h; exact absurd h (by decide)
  rw [if_neg a1] at h
  by_cases a2 : ¬ (¬ c < 0 ∧ ¬ sColumns σ g ≤ c)
  · rw [if_pos a2] at h; exact absurd h (by decide)
  rw [if_neg a2] at h
  cases q with
  | none => exact absurd (show (1 : Int32) = 0 from h) (by decide)
  | some p =>
    simp only [] at h
    by_cases a3 : k < 0
    · rw [if_pos a3] at h; exact absurd h (by decide)
    rw [if_neg a3] at h
    by_cases a4 : ¬ k ≤ 2
    · rw [if_pos a4] at h; exact absurd h (by decide)
    rw [if_neg a4] at h
    by_cases a5 : ¬ sTakesK σ g k
    · rw [if_pos a5] at h; exact absurd h (by decide)
    rw [if_neg a5] at h
    by_cases a6 : mv = 0 ∧ (sa σ 702 p = 0 ∨ ¬ sa σ 708 p = -1)
    · rw [if_pos a6] at h; exact absurd h (by decide)
    rw [if_neg a6] at h
    by_cases a7 : ¬ sa σ 10 g = 5 ∧ ¬ sa σ 606 g = 1
    · rw [if_pos a7] at h; exact absurd h (by decide)
    rw [if_neg a7] at h
    by_cases a8 : ¬ 0 ≤ sRoom σ g c (sa σ 203 0)
    · rw [if_pos a8] at h; exact absurd h (by decide)
    rw [if_neg a8] at h
    by_cases a9 : ¬ sa σ 10 g = 5 ∧ ¬ sAgreed σ g p
    · rw [if_pos a9] at h; exact absurd h (by decide)
    rw [if_neg a9] at h
    by_cases a10 : ¬ sa σ 10 g = 5 ∧ ¬ sLacks σ g e ≤ 20
    · rw [if_pos a10] at h; exact absurd h (by decide)
    refine ⟨p, rfl, a1, Classical.byContradiction a2, a3, Classical.byContradiction a4, Classical.byContradiction a5, fun hm => ⟨fun z => a6 ⟨hm, Or.inl z⟩, Classical.byContradiction fun z => a6 ⟨hm, Or.inr z⟩⟩, ?_, Classical.byContradiction a8, ?_⟩
    · by_cases k5 : sa σ 10 g = 5
      · exact Or.inl k5
      · exact Or.inr (Classical.byContradiction fun z => a7 ⟨k5, z⟩)
    · by_cases k5 : sa σ 10 g = 5
      · exact Or.inl k5
      · exact Or.inr ⟨Classical.byContradiction fun z => a9 ⟨k5, z⟩, Classical.byContradiction fun z => a10 ⟨k5, z⟩⟩
theorem sPn_some {v : Int32} {j : Nat} (h40 : sn σ 2 ≤ 40) (h : sPn σ v = some j) : j < sn σ 2 ∧ v = nI j := by
  unfold sPn at h
  by_cases q : ∃ j, j < sn σ 2 ∧ v = nI j
  · rw [if_pos q] at h
    obtain ⟨i, hi, e⟩ := q
    have : v.toNatClampNeg = j := Option.some.inj h
    rw [e, nI_clamp (by omega)] at this
    subst this
    exact ⟨hi, e⟩
  · rw [if_neg q] at h; cases h
theorem sWhy_r {x c p k : Int32} (h : ¬ sWhy σ x c p k = 0) : -sWhy σ x c p k < 0 := by
  unfold sWhy at *
  by_cases q : ∃ g, g < sn σ 1 ∧ x = nI g
  · rw [if_pos q] at *
    exact sWhyG_r h
  · rw [if_neg q]; decide
theorem sp_bury (R : rcAll G F h0 A E h σ cb b) (W : sRef σ) (h700 : ∀ p, p < sn σ 2 → sa σ 700 p = nI p) (hH : ∀ g, g < sn σ 1 → sa σ 606 g = 1 → ¬ sa σ 607 g = -1) (hL : ∀ g, g < sn σ 1 → (sl σ 1 g).length ≤ 40 ∧ ∀ q ∈ sl σ 1 g, ¬ sa σ 708 q = -1) (hY : ∀ p, p < sn σ 2 → (sy σ p).length ≤ 40)
    {x c p k : Int32} (hN : ∀ g j, g < sn σ 1 → j < sn σ 2 → sWhyG σ g c (some j) k (sEnd σ g k) 0 = 0 → ¬ (sBuryG σ g j c k).1 < 0) {Q : Int32 → ZH → Prop} {XE : String → Nat → ZH → Prop} {bc bs : Nat} (hc : 3 ≤ bc) (hs : 130 ≤ bs)
    (hX : ∀ v', sBury σ x c p k = (v', σ) → v' < 0 → zXr XE h v')
    (hQ : ∀ v σ' A' E' h', sBury σ x c p k = (v, σ') → ¬ v < 0 → rcAll G F h0 A' E' h' σ' cb b → Q v h') : fc_X5_bury G b Q XE h bc bs x c p k := by
  have h40 := W.2.2.2.2.1 2
  have h41 := W.2.2.2.2.1 1
  refine ⟨R.1.1, sp_why R W h700 hH ⟨fun w => ?_, fun w => ?_⟩⟩
  · exact ⟨bc, bs, Nat.le_refl _, Nat.le_refl _, sp_no (by omega) (by omega) (hX (-sWhy σ x c p k) (by unfold sBury; rw [if_neg w]) (sWhy_r w))⟩
  have base : sBury σ x c p k = sBuryG σ x.toNatClampNeg p.toNatClampNeg c k := by unfold sBury; rw [if_pos w]
  have w0 := w
  unfold sWhy at w0
  by_cases hx : ∃ g, g < sn σ 1 ∧ x = nI g
  · rw [if_pos hx] at w0
    obtain ⟨j, ej, n4, hcol, k0, k2, htk, hmv, h51, hroom, hag⟩ := sWhyG_0 w0
    obtain ⟨g, hg, ex⟩ := hx
    obtain ⟨hj, ep⟩ := sPn_some h40 ej
    obtain ⟨d702, d708⟩ := hmv rfl
    have xc : x.toNatClampNeg = g := by rw [ex]; exact nI_clamp (by omega)
    have pc : p.toNatClampNeg = j := by rw [ep]; exact nI_clamp (by omega)
    rw [xc, pc] at base
    rw [xc] at hroom
    refine ⟨0, 0, Nat.zero_le _, Nat.zero_le _, sp_ok ⟨R.1.1, sp_grave R (fun g' hg' ex' => ⟨R.1.1, sp_person R (fun j' hj' ep' => ⟨_, rfl, by rw [(R.2.2.2.1 j' hj').1]; decide, fun h8 e8 => ?_⟩) (fun hno => absurd ⟨j, hj, ep⟩ hno)⟩) (fun hno => absurd ⟨g, hg, ex⟩ hno)⟩⟩
    have eg : g' = g := (nI_eq (by omega) (by omega)).mp (ex'.symm.trans ex)
    have ejj : j' = j := (nI_eq (by omega) (by omega)).mp (ep'.symm.trans ep)
    subst eg; subst ejj
    have R8 : rcAll G F h0 A E h8 (sau σ 708 j' k) cb b := e8 ▸ rc_Pi R hj (f := 708) (x := k) (by simp [rcPi])
    refine ⟨R8.1.1, sp_endOf R8 hg ⟨by rw [(R8.2.2.2.1 j' hj).1]; decide, fun h10 e10 => ?_⟩⟩
    have es : sEnd (sau σ 708 j' k) g' k = sEnd σ g' k := rfl
    rw [es] at e10
    have R10 : rcAll G F h0 A E h10 (sau (sau σ 708 j' k) 709 j' (sEnd σ g' k)) cb b := e10 ▸ rc_Pi R8 hj (f := 709) (x := sEnd σ g' k) (by simp [rcPi])
    have W10 : sRef (sau (sau σ 708 j' k) 709 j' (sEnd σ g' k)) := sRef_at W (fun k' i hk => by rw [sa_au, if_neg (by simp at hk; omega), sa_au, if_neg (by simp at hk; omega)]) rfl rfl rfl
    have room : sRoom (sau (sau σ 708 j' k) 709 j' (sEnd σ g' k)) g' c (sa (sau (sau σ 708 j' k) 709 j' (sEnd σ g' k)) 203 0) = sRoom σ g' c (sa σ 203 0) := by
      refine sRoom_congr rfl rfl fun q hq => ⟨rfl, rfl, ?_, rfl⟩
      rw [sa_au, if_neg, sa_au, if_neg (by omega)]
      rintro ⟨-, rfl⟩
      exact (hL g' hg).2 q hq d708
    refine ⟨R10.1.1, 3, 130, (by omega : 3 ≤ bc), (by omega : 130 ≤ bs), sp_laid R10 W10 hj (hY j' hj) hg ?_ (hL g' hg).1 (Nat.le_refl _) (Nat.le_refl _) fun A' E' h14 R14 _ => ⟨R14.1.1, sp_paid R14 fun h16 R16 => ?_⟩⟩
    · rw [room]
      exact Int32.not_lt.mpr hroom
    · exact hQ _ _ A' E' h16 base (hN g' j' hg hj (by rw [xc, ej] at w0; exact w0)) R16
  · rw [if_neg hx] at w0; exact absurd w0 (by decide)
end ZBU
