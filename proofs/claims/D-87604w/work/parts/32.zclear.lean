/-! METHODS of the component on the picture of a book: the act 'clear'. -/
set_option maxRecDepth 100000
section ZCL
variable {G : Nat × Nat × Nat} {F : Nat → Prop} {h0 h h' : ZH} {A A' : ZA} {E E' : Nat → Nat} {σ σ' : ZS} {cb b : Nat} {C : Nat → List Nat}
/-- a meadow of a field -/
abbrev sMeadow (σ : ZS) (g : Nat) (f : Int32) : Prop := sa σ 601 g = f ∧ sa σ 10 g = 5
def sKinds (σ : ZS) : Prop := ∀ g, g < sn σ 1 → ¬ sa σ 10 g < 1 ∧ ¬ 6 < sa σ 10 g
theorem sp_isMeadow (R : rcAll G F h0 A E h σ cb b) (K : sKinds σ) {Q : Int32 → Prop} {g : Nat} {f : Int32} (hg : g < sn σ 1) (hQ1 : sMeadow σ g f → Q 1) (hQ0 : ¬ sMeadow σ g f → Q 0) : fc_X5_isMeadow G b Q h (some (A 1 g)) f := by
  have e601 : zi h 601 (A 1 g) = sa σ 601 g := (R.2.2.2.2.1 g hg).2.1 601 (by simp [rcGi])
  refine ⟨_, rfl, rc_gt R hg, fun w => hQ0 fun q => w (e601.trans q.1), fun w => sp_kind R hg (K g hg) ⟨fun w2 => hQ0 fun q => w2 q.2, fun w2 => hQ1 ⟨e601.symm.trans w, w2⟩⟩⟩
/-- the room on a field's meadows -/
def sMeadows (σ : ZS) (f : Int32) : Nat → Int32
  | 0 => 0
  | i + 1 => sMeadows σ f i + (if sMeadow σ i f then 40 - nI (sl σ 1 i).length else 0)
/-- an urn goes to the first meadow with room, from i on -/
def sUrnF (σ : ZS) (f : Int32) (p : Nat) : Nat → Nat → ZS
  | 0, _ => σ
  | m + 1, i => if sMeadow σ i f ∧ ¬ (sl σ 1 i).length = 40 then sPutG σ i p (sa σ 203 0) 0 0 else sUrnF σ f p m (i + 1)
def sUrn (σ : ZS) (g : Nat) (q : Option Nat) : ZS := match q with
  | none => σ
  | some p => sUrnF σ (sa σ 601 g) p (sn σ 1) 0
def sUrns (σ : ZS) (g : Nat) : Nat → ZS
  | 0 => σ
  | c + 1 => sUrn (sUrns σ g c) g (sIn (sUrns σ g c) g (nI c) 0)
/-- somebody is gone -/
def sGoes (σ : ZS) (p : Nat) : ZS := sStay (sau (sau σ 703 p 1) 710 p (-1)) p (sa σ 203 0) (-1)
def sGone (σ : ZS) (l : List Nat) : ZS := l.foldl sGoes σ
/-- the references stay right behind one more stay -/
theorem rc_sy64 (R : rcAll G F h0 A E h σ cb b) {p : Nat} (hp : p < sn σ 2) : (sy σ p).length ≤ 64 := by
  have L := rc_sty R hp
  have := L.2.2.2.2.1; have := L.2.2.2.2.2.1
  simp at *; omega
theorem sRef_stay {p : Nat} {day t : Int32} (R : rcAll G F h0 A E h (sStay σ p day t) cb b) (W : sRef σ) (ht : sOk (sn σ 1) t) : sRef (sStay σ p day t) := by
  obtain ⟨w1, w2, w3, w4, w5, w6⟩ := W
  refine ⟨w1, w2, fun q hq x hx => ?_, w4, w5, fun q hq => rc_sy64 R hq⟩
  unfold sStay at hx
  rw [sy_yu] at hx
  by_cases e : q = p
  · rw [if_pos e] at hx
    rcases List.mem_append.mp hx with z | z
    · rw [← e] at z; exact w3 q hq x z
    · rw [List.mem_singleton.mp z]; exact ht
  · rw [if_neg e] at hx; exact w3 q hq x hx
theorem sRef_710 (W : sRef σ) {p : Nat} {x : Int32} (hx : sOk (sn σ 1) x) : sRef (sau σ 710 p x) := by
  obtain ⟨⟨w1, w1'⟩, w2, w3, w4, w5, w6⟩ := W
  have e : ∀ k i, ¬ k = 710 → sa (sau σ 710 p x) k i = sa σ k i := fun k i hk => by rw [sa_au, if_neg (fun z => hk z.1)]
  refine ⟨⟨fun q hq => ⟨fun f hf => ?_, ?_⟩, fun q hq f hf => ?_⟩, w2, w3, fun r hr k hk => ?_, w5, w6⟩
  · rw [e f q (by simp [rcPr] at hf; omega)]; exact (w1 q hq).1 f hf
  · rw [sa_au]
    by_cases hqp : q = p
    · rw [if_pos ⟨rfl, hqp⟩]; exact hx
    · rw [if_neg (fun z => hqp z.2)]; exact (w1 q hq).2
  · rw [e f q (by simp [rcGr] at hf; omega)]; exact w1' q hq f hf
  · have hr' : rcRowLive σ r := by
      obtain ⟨r1, r2, r3⟩ := hr
      rw [e 502 _ (by omega)] at r2
      rw [e 501 _ (by omega)] at r3
      exact ⟨r1, r2, r3⟩
    rw [e 6 _ (by omega)] at hk
    rw [e 8 _ (by omega)]
    exact w4 r hr' k hk
theorem sp_goes (R : rcAll G F h0 A E h σ cb b) (W : sRef σ) {Q : ZH → Prop} {p bc bs : Nat} (hp : p < sn σ 2) (y40 : (sy σ p).length ≤ 40) (hc : 2 ≤ bc) (hs : 66 ≤ bs)
    (hQ : ∀ A' E' h', rcAll G F h0 A' E' h' (sGoes σ p) cb b → sRef (sGoes σ p) → (∀ k i, k < 8 → A' k i = A k i) → Q h') : fc_X5_goes G b Q h bc bs (some (A 0 p)) := by
  have m14 : zt h (A 0 p) ∈ [14] := by rw [(R.2.2.2.1 p hp).1]; decide
  refine ⟨_, rfl, m14, fun h2 e2 => ?_⟩
  have R2 : rcAll G F h0 A E h2 (sau σ 703 p 1) cb b := e2 ▸ rc_Pi R hp (f := 703) (x := 1) (by simp [rcPi])
  refine ⟨by rw [R2.1.1]; decide, (R2.2.2.2.1 p hp).1, 2, 66, hc, hs, ?_⟩
  have m2 : zt h2 (A 0 p) ∈ [14] := by rw [(R2.2.2.2.1 p hp).1]; decide
  refine ⟨m2, fun h1 e1 => ⟨fun _ => ?_, fun b2 z => (nomatch z)⟩⟩
  have R1 : rcAll G F h0 A E h1 (sau (sau σ 703 p 1) 710 p (-1)) cb b := e1 ▸ rc_Pg R2 hp (f := 710) (x := -1) rfl
  have W2 : sRef (sau σ 703 p 1) := sRef_at W (fun k i hk => by rw [sa_au, if_neg (by simp at hk; omega)]) rfl rfl rfl
  have W1 : sRef (sau (sau σ 703 p 1) 710 p (-1)) := sRef_710 W2 (Or.inl rfl)
  rw [R2.1.2.1]
  exact sp_stay R1 W1 (t := -1) hp y40 rfl (Nat.le_refl _) (Nat.le_refl _) fun A' E' h' R' hA => hQ A' E' h' R' (sRef_stay R' W1 (Or.inl rfl)) hA
theorem sPutG_ref {g p d : Nat} {day c : Int32} (R : rcAll G F h0 A E h (sPutG σ g p day c d) cb b) (W : sRef σ) (hg : g < sn σ 1) (hp : p < sn σ 2) : sRef (sPutG σ g p day c d) := by
  have lie : ∀ (σ1 : ZS) (c' d' : Int32), sRef σ1 → g < sn σ1 1 → rcAll G F h0 A E h (sLie σ1 g p day c' d') cb b → sRef (sLie σ1 g p day c' d') := by
    intro σ1 c' d' W1 hg1 R1
    have hok : sOk (sn σ1 1) (nI g) := Or.inr ⟨g, hg1, rfl⟩
    refine sRef_stay R1 ?_ hok
    exact sRef_at (sRef_710 W1 hok) (fun k i hk => by rw [sa_au, if_neg (by simp at hk; omega), sa_au, if_neg (by simp at hk; omega)]) rfl rfl rfl
  have add : ∀ q ∈ sl σ 1 g ++ [p], q < sn σ 2 := fun q hq => by
    rcases List.mem_append.mp hq with z | z
    · exact (W.2.1 g hg).2 q z
    · rw [List.mem_singleton.mp z]; exact hp
  unfold sPutG at R ⊢
  by_cases k5 : sa σ 10 g = 5
  · rw [if_pos k5] at R ⊢
    exact lie _ 0 0 (sRef_ll W (by omega) add) hg R
  · rw [if_neg k5] at R ⊢
    obtain ⟨u1, u2, u3, u4⟩ := sEar_el (σ := σ) (g := g) (c := c) (d + 1)
    exact lie _ c (nI d) (sRef_ll (sRef_at W (fun k i hk => u1 k i (by simp at hk; omega)) u2 u3 u4) (by omega) (by rw [u3]; exact add)) (by show g < sn (sEar σ g c (d + 1)) 1; rw [u3]; exact hg) R
theorem sPutG_el {g p d : Nat} {day c : Int32} : sn (sPutG σ g p day c d) = sn σ ∧ (∀ q, (sy (sPutG σ g p day c d) q).length ≤ (sy σ q).length + 1) ∧ (∀ k i, k < 700 → sa (sPutG σ g p day c d) k i = sa σ k i) ∧ (∀ i, ¬ i = g → sl (sPutG σ g p day c d) 1 i = sl σ 1 i) ∧ ∀ i, (sl (sPutG σ g p day c d) 1 i).length ≤ (sl σ 1 i).length + 1 := by
  have lie : ∀ (σ1 : ZS) (l : List Nat) (c' d' : Int32), l.length = (sl σ1 1 g).length + 1 → sn (sLie (slu σ1 1 g l) g p day c' d') = sn σ1 ∧ (∀ q, (sy (sLie (slu σ1 1 g l) g p day c' d') q).length ≤ (sy σ1 q).length + 1) ∧ (∀ k i, k < 700 → sa (sLie (slu σ1 1 g l) g p day c' d') k i = sa σ1 k i) ∧ (∀ i, ¬ i = g → sl (sLie (slu σ1 1 g l) g p day c' d') 1 i = sl σ1 1 i) ∧ ∀ i, (sl (sLie (slu σ1 1 g l) g p day c' d') 1 i).length ≤ (sl σ1 1 i).length + 1 := by
    intro σ1 l c' d' hl
    have lb : ∀ i, ¬ i = g → sl (sLie (slu σ1 1 g l) g p day c' d') 1 i = sl σ1 1 i := fun i hi => by
      unfold sLie sStay
      rw [sl_yu, sl_au, sl_au, sl_au, sl_lu, if_neg (fun z => hi z.2)]
    refine ⟨rfl, fun q => ?_, fun k i hk => ?_, lb, fun i => ?_⟩
    all_goals unfold sLie sStay
    · rw [sy_yu]
      by_cases e : q = p
      · rw [if_pos e, List.length_append, List.length_singleton, e]; exact Nat.le_refl _
      · rw [if_neg e]; exact Nat.le_succ _
    · rw [sa_yu, sa_au, if_neg (by omega), sa_au, if_neg (by omega), sa_au, if_neg (by omega), sa_lu]
    · by_cases e : i = g
      · rw [sl_yu, sl_au, sl_au, sl_au, sl_lu, if_pos ⟨rfl, e⟩, e, hl]; exact Nat.le_refl _
      · rw [sl_yu, sl_au, sl_au, sl_au, sl_lu, if_neg (fun z => e z.2)]; exact Nat.le_succ _
  unfold sPutG
  by_cases k5 : sa σ 10 g = 5
  · rw [if_pos k5]; exact lie _ _ _ _ (by rw [List.length_append]; rfl)
  · rw [if_neg k5]
    obtain ⟨u1, u2, u3, u4⟩ := sEar_el (σ := σ) (g := g) (c := c) (d + 1)
    obtain ⟨v1, v2, v3, v4, v5⟩ := lie (sEar σ g c (d + 1)) (sl σ 1 g ++ [p]) c (nI d) (by rw [List.length_append, u2]; rfl)
    exact ⟨v1.trans u3, fun q => by have := v2 q; rw [u4] at this; exact this, fun k i hk => (v3 k i hk).trans (u1 k i (by omega)), fun i hi => (v4 i hi).trans (by rw [u2]), fun i => by have := v5 i; rw [u2] at this; exact this⟩
theorem sUrnF_el {f : Int32} {p : Nat} : ∀ m i, sn (sUrnF σ f p m i) = sn σ ∧ (∀ q, (sy (sUrnF σ f p m i) q).length ≤ (sy σ q).length + 1) ∧ (∀ k x, k < 700 → sa (sUrnF σ f p m i) k x = sa σ k x) ∧ (∀ x, ¬ sa σ 10 x = 5 → sl (sUrnF σ f p m i) 1 x = sl σ 1 x) ∧ ∀ x, (sl (sUrnF σ f p m i) 1 x).length ≤ (sl σ 1 x).length + 1 := by
  intro m
  induction m with
  | zero => intro i; exact ⟨rfl, fun q => Nat.le_succ _, fun _ _ _ => rfl, fun _ _ => rfl, fun _ => Nat.le_succ _⟩
  | succ m ih =>
    intro i
    unfold sUrnF
    by_cases q : sMeadow σ i f ∧ ¬ (sl σ 1 i).length = 40
    · rw [if_pos q]
      obtain ⟨v1, v2, v3, v4, v5⟩ := sPutG_el (σ := σ) (g := i) (p := p) (d := 0) (day := sa σ 203 0) (c := 0)
      exact ⟨v1, v2, v3, fun x hx => v4 x fun z => hx (z ▸ q.1.2), v5⟩
    · rw [if_neg q]; exact ih (i + 1)
theorem sUrns_el {g : Nat} : ∀ c, sn (sUrns σ g c) = sn σ ∧ (∀ q, (sy (sUrns σ g c) q).length ≤ (sy σ q).length + c) ∧ (∀ k x, k < 700 → sa (sUrns σ g c) k x = sa σ k x) ∧ (∀ x, ¬ sa σ 10 x = 5 → sl (sUrns σ g c) 1 x = sl σ 1 x) ∧ ∀ x, (sl (sUrns σ g c) 1 x).length ≤ (sl σ 1 x).length + c := by
  intro c
  induction c with
  | zero => exact ⟨rfl, fun q => Nat.le_refl _, fun _ _ _ => rfl, fun _ _ => rfl, fun _ => Nat.le_refl _⟩
  | succ c ih =>
    obtain ⟨i1, i2, i3, i4, i5⟩ := ih
    show sn (sUrn (sUrns σ g c) g (sIn (sUrns σ g c) g (nI c) 0)) = sn σ ∧ (∀ q, (sy (sUrn (sUrns σ g c) g (sIn (sUrns σ g c) g (nI c) 0)) q).length ≤ (sy σ q).length + (c + 1)) ∧ (∀ k x, k < 700 → sa (sUrn (sUrns σ g c) g (sIn (sUrns σ g c) g (nI c) 0)) k x = sa σ k x) ∧ (∀ x, ¬ sa σ 10 x = 5 → sl (sUrn (sUrns σ g c) g (sIn (sUrns σ g c) g (nI c) 0)) 1 x = sl σ 1 x) ∧ ∀ x, (sl (sUrn (sUrns σ g c) g (sIn (sUrns σ g c) g (nI c) 0)) 1 x).length ≤ (sl σ 1 x).length + (c + 1)
    unfold sUrn
    split
    · exact ⟨i1, fun q => by have := i2 q; omega, i3, i4, fun x => by have := i5 x; omega⟩
    · rename_i p hp
      obtain ⟨v1, v2, v3, v4, v5⟩ := sUrnF_el (σ := sUrns σ g c) (f := sa (sUrns σ g c) 601 g) (p := p) (sn (sUrns σ g c) 1) 0
      exact ⟨v1.trans i1, fun q => by have := i2 q; have := v2 q; omega, fun k x hk => (v3 k x hk).trans (i3 k x hk), fun x hx => (v4 x (by rw [i3 10 x (by omega)]; exact hx)).trans (i4 x hx), fun x => by have := i5 x; have := v5 x; omega⟩
theorem sp_urn (R : rcAll G F h0 A E h σ cb b) (W : sRef σ) (K : sKinds σ) {Q : ZH → Prop} {g bc bs : Nat} {q : Option Nat} (hg : g < sn σ 1) (hq : ∀ p, q = some p → p < sn σ 2 ∧ (sy σ p).length ≤ 40) (hlen : ∀ i, i < sn σ 1 → (sl σ 1 i).length ≤ 40) (hc : 3 ≤ bc) (hs : 130 ≤ bs)
    (hQ : ∀ A' E' h', rcAll G F h0 A' E' h' (sUrn σ g q) cb b → sRef (sUrn σ g q) → (∀ k i, k < 8 → A' k i = A k i) → Q h') : fc_X5_urn G b Q h bc bs (some (A 1 g)) (q.map (A 0)) := by
  have hb4 : zt h b ∈ [4] := by rw [R.1.1]; decide
  have h41 := W.2.2.2.2.1 1
  have L1 := rc_ls R (j := 1) (Or.inl (by omega))
  have hlen1 : (rcCon A σ 1).length = sn σ 1 := by rw [rc_con1]; simp
  have loop : ∀ (n i : Nat), i ≤ sn σ 1 → sn σ 1 + 1 ≤ i + n → (∀ p, q = some p → sUrn σ g q = sUrnF σ (sa σ 601 g) p (sn σ 1 - i) i) → fc_X5_urn_2 G b Q n h bc bs (some (A 1 g)) (q.map (A 0)) (nI i) := by
    intro n
    induction n with
    | zero => intro i h1 h2; omega
    | succ n ih =>
      intro i h1 h2 he
      refine ⟨hb4, A 5 1, R.1.2.2.2.2.1, L1.1, zl_size L1 ⟨fun w => ?_, fun w => ⟨fun w2 => ?_, fun b3 w2 => ⟨hb4, L1.1, ?_⟩⟩⟩⟩
      · rw [hlen1] at w
        have hi : i = sn σ 1 := by have := (nI_leI (by omega) (by omega)).mp w; omega
        have e : sUrn σ g q = σ := by
          cases q with
          | none => rfl
          | some p => rw [he p rfl, hi, Nat.sub_self]; rfl
        rw [e] at hQ
        exact hQ A E h R W fun _ _ _ => rfl
      · have e : sUrn σ g q = σ := by
          cases q with
          | none => rfl
          | some p => cases w2
        rw [e] at hQ
        exact hQ A E h R W fun _ _ _ => rfl
      · rw [hlen1] at w
        have hi : i < sn σ 1 := Classical.byContradiction fun z => w (nI_le (by omega) (by omega))
        cases q with
        | none => cases w2
        | some p =>
          obtain ⟨hp, y40⟩ := hq p rfl
          have e1 := he p rfl
          rw [show sn σ 1 - i = (sn σ 1 - (i + 1)) + 1 by omega] at e1
          have e1 : sUrn σ g (some p) = if sMeadow σ i (sa σ 601 g) ∧ ¬ (sl σ 1 i).length = 40 then sPutG σ i p (sa σ 203 0) 0 0 else sUrnF σ (sa σ 601 g) p (sn σ 1 - (i + 1)) (i + 1) := e1
          have e601 : zi h 601 (A 1 g) = sa σ 601 g := (R.2.2.2.2.1 g hg).2.1 601 (by simp [rcGi])
          have next : ¬ (sMeadow σ i (sa σ 601 g) ∧ ¬ (sl σ 1 i).length = 40) → fc_X5_urn_72 G b Q (fun h9 c9 s9 y0 y1 y2 => fc_X5_urn_2 G b Q n h9 c9 s9 y0 y1 y2) h bc bs (some (A 1 g)) ((some p).map (A 0)) (nI i) := by
            intro hn x1 ex
            rw [nI_1] at ex
            subst ex
            rw [if_neg hn] at e1
            exact ih (i + 1) (by omega) (by omega) fun p' ep => by cases ep; exact e1
          refine sp_gget R hi ⟨fun b9 e9 => by cases e9; exact rc_gt R hi, _, rfl, rc_gt R hg, R.1.1, ?_⟩
          rw [e601]
          refine sp_isMeadow R K hi (fun m => ⟨fun z => absurd z (by decide), fun _ => ⟨_, rfl, rc_gt R hi, _, (R.2.2.2.2.1 i hi).2.2.2.2.1, (rc_lyi R hi).1, zl_size (rc_lyi R hi) ⟨fun z => ⟨hb4, 3, 130, hc, hs, ?_⟩, fun z => next fun y => y.2 ?_⟩⟩⟩) (fun m => ⟨fun _ => next fun y => m y.1, fun z => absurd rfl z⟩)
          · rw [List.length_map] at z
            have n40 : ¬ (sl σ 1 i).length = 40 := fun y => z (by rw [y]; rfl)
            rw [if_pos ⟨m, n40⟩] at e1
            rw [R.1.2.1]
            have n0 : (0 : Int32) = nI 0 := by decide
            rw [e1] at hQ
            have := sp_put R W (Q := Q) (g := i) (p := p) (d := 0) (day := sa σ 203 0) (c := 0) hp y40 hi (by omega) (hlen i hi) (Nat.le_refl 3) (Nat.le_refl 130) fun A' E' h' R' hA => hQ A' E' h' R' (sPutG_ref R' W hi hp) hA
            rw [← n0] at this
            exact this
          · rw [List.length_map] at z
            have := hlen i hi
            exact (nI_eq (a := (sl σ 1 i).length) (b := 40) (by omega) (by omega)).mp z
  exact ⟨sn σ 1 + 1, loop (sn σ 1 + 1) 0 (by omega) (by omega) fun p e => by rw [e]; rfl⟩
end ZCL
