/-! METHODS of the component on the picture of a book: the act 'clear', whole. -/
set_option maxRecDepth 100000
section ZCR
variable {G : Nat × Nat × Nat} {F : Nat → Prop} {h0 h h' : ZH} {A A' : ZA} {E E' : Nat → Nat} {σ σ' : ZS} {cb b : Nat} {C : Nat → List Nat}
theorem sGone_s (l : List Nat) (i : Nat) (p : Nat) (h : l[i]? = some p) : sGone σ (l.take (i + 1)) = sGoes (sGone σ (l.take i)) p := by
  have hi := (List.getElem?_eq_some_iff.mp h).1
  have e : l.take (i + 1) = l.take i ++ [p] := by rw [List.take_succ, h]; rfl
  unfold sGone
  rw [e, List.foldl_append]; rfl
theorem sGone_el : ∀ (l : List Nat) (σ : ZS), sn (sGone σ l) = sn σ ∧ (∀ k x, k < 700 → sa (sGone σ l) k x = sa σ k x) ∧ sl (sGone σ l) = sl σ ∧ ∀ p, ¬ p ∈ l → sy (sGone σ l) p = sy σ p := by
  intro l
  induction l with
  | nil => intro σ; exact ⟨rfl, fun _ _ _ => rfl, rfl, fun _ _ => rfl⟩
  | cons a l ih =>
    intro σ
    obtain ⟨i1, i2, i3, i4⟩ := ih (sGoes σ a)
    refine ⟨i1, fun k x hk => (i2 k x hk).trans ?_, i3, fun p hp => (i4 p fun z => hp (List.mem_cons_of_mem _ z)).trans ?_⟩
    · unfold sGoes sStay
      rw [sa_yu, sa_au, if_neg (by omega), sa_au, if_neg (by omega)]
    · unfold sGoes sStay
      have hne : ¬ p = a := fun z => hp (by rw [z]; exact List.mem_cons_self)
      rw [sy_yu, if_neg hne]; rfl
def sHasRest (σ : ZS) (g : Nat) (t : Int32) : Bool := (sl σ 1 g).any (fun p => decide (sRests σ p t))
theorem sp_hasRest (R : rcAll G F h0 A E h σ cb b) (W : sRef σ) {Q : Int32 → Prop} {g : Nat} {t : Int32} (hg : g < sn σ 1) (hQ1 : sHasRest σ g t = true → Q 1) (hQ0 : sHasRest σ g t = false → Q 0) : fv_hasRest_22 G (A 1 g) Q h t := by
  have hm := rc_gt R hg
  have L := rc_lyi R hg
  have h615 := (R.2.2.2.2.1 g hg).2.2.2.2.1
  have hlen := rc_lyn R hg
  have hly := (W.2.1 g hg).2
  have loop : ∀ (n i : Nat), i ≤ (sl σ 1 g).length → (sl σ 1 g).length + 1 ≤ i + n → sHasRest σ g t = ((sl σ 1 g).drop i).any (fun p => decide (sRests σ p t)) → fc_X9_hasRest_2 G (A 1 g) Q n h t (nI i) := by
    intro n
    induction n with
    | zero => intro i h1 h2; omega
    | succ n ih =>
      intro i h1 h2 he
      refine ⟨hm, _, h615, L.1, zl_size L ⟨fun w => ?_, fun w => ⟨hm, L.1, ?_⟩⟩⟩
      · rw [List.length_map] at w
        have hi : i = (sl σ 1 g).length := by have := (nI_leI (by omega) (by omega)).mp w; omega
        rw [hi, List.drop_length] at he
        exact hQ0 he
      · rw [List.length_map] at w
        have hi : i < (sl σ 1 g).length := Classical.byContradiction fun q => w (nI_le (by omega) (by omega))
        have hgi : (sl σ 1 g)[i]? = some (sl σ 1 g)[i] := by simp [hi]
        have hp : (sl σ 1 g)[i] < sn σ 2 := hly _ (List.getElem_mem hi)
        have dr : (sl σ 1 g).drop i = (sl σ 1 g)[i] :: (sl σ 1 g).drop (i + 1) := List.drop_eq_getElem_cons hi
        rw [dr, List.any_cons] at he
        generalize (sl σ 1 g)[i] = p at *
        have m14 : zt h (A 0 p) ∈ [14] := by rw [(R.2.2.2.1 p hp).1]; decide
        refine sp_lget R hg hgi ⟨fun b9 e9 => by cases e9; exact m14, _, rfl, (R.2.2.2.1 p hp).1, sp_rests R hp (W.1.1 p hp).2 (fun q => ⟨fun z => absurd z (by decide), fun _ => hQ1 ?_⟩) (fun q => ⟨fun _ x6 e6 => ?_, fun z => absurd rfl z⟩)⟩
        · rw [he, decide_eq_true q]; rfl
        · rw [nI_1] at e6
          subst e6
          refine ih (i + 1) (by omega) (by omega) ?_
          rw [he, decide_eq_false q]; rfl
  exact ⟨hm, fun _ => ⟨(sl σ 1 g).length + 1, loop _ 0 (by omega) (by omega) rfl⟩⟩
/-- the grave is over, its places are free -/
def sOver (σ : ZS) (g : Nat) : ZS := sru (sau (slu σ 1 g []) 606 g 4) (30 * (12 * (sa σ 601 g).toNatClampNeg + (sa σ 602 g).toNatClampNeg) + (sa σ 603 g).toNatClampNeg) (sa σ 604 g).toNatClampNeg 0
def sClearG (σ : ZS) (g : Nat) : Int32 × ZS :=
  if ¬ sa σ 606 g = 3 then (-2, σ)
  else if sHasRest σ g (sa σ 203 0) = true then (-3, σ)
  else if sa σ 10 g = 4 ∧ sMeadows σ (sa σ 601 g) (sn σ 1) < nI (sl σ 1 g).length then (-4, σ)
  else (if sa σ 10 g = 4 then nI (sl σ 1 g).length else 0, sOver (if sa σ 10 g = 4 then sUrns σ g 4 else sGone σ (sl σ 1 g)) g)
/-- the act 'clear' -/
def sClear (σ : ZS) (x : Int32) : Int32 × ZS := if ∃ g, g < sn σ 1 ∧ x = nI g then sClearG σ x.toNatClampNeg else (-1, σ)
/-- a grave's place in its row -/
def sSet (σ : ZS) (g : Nat) : Prop := ∃ f r k m, sa σ 601 g = nI f ∧ sa σ 602 g = nI r ∧ sa σ 603 g = nI k ∧ sa σ 604 g = nI m ∧ f < sn σ 0 ∧ r < 12 ∧ rcRowLive σ (12 * f + r) ∧ k + m ≤ sLen σ (12 * f + r)
theorem sp_over (R : rcAll G F h0 A E h σ cb b) {Q : Int32 → ZH → Prop} {XE : String → Nat → ZH → Prop} {g bc bs : Nat} {v : Int32} (hg : g < sn σ 1) (hS : sSet σ g)
    (hQ : ∀ E' h', rcAll G F h0 A E' h' (sOver σ g) cb b → Q v h') : fc_X5_clear_266 G b Q XE h bc bs (some (A 1 g)) v := by
  have hm := rc_gt R hg
  have h64 := rc_sz1 R
  have h640 := rc_sz0 R
  obtain ⟨f, r, k, m, e601, e602, e603, e604, hf, hr12, hr, hkm⟩ := hS
  have L := rc_lyi R hg
  refine ⟨_, rfl, hm, _, (R.2.2.2.2.1 g hg).2.2.2.2.1, L.1, zl_clear L fun h3 hL3 hA3 => ?_⟩
  have R3 := rc_L R (k := 1) (l := []) (by omega) hg (by omega) rfl hL3 hA3
  refine ⟨rc_gt R3 hg, fun h4 e4 => ?_⟩
  have R4 : rcAll G F h0 A _ h4 (sau (slu σ 1 g []) 606 g 4) cb b := e4 ▸ rc_Gi R3 hg (f := 606) (x := 4) (by simp [rcGi])
  have hb4 : zt h4 b ∈ [4] := by rw [R4.1.1]; decide
  have hm4 := rc_gt R4 hg
  have G4 := (R4.2.2.2.2.1 g hg).2.1
  have z601 : zi h4 601 (A 1 g) = nI f := (G4 601 (by simp [rcGi])).trans e601
  have z602 : zi h4 602 (A 1 g) = nI r := (G4 602 (by simp [rcGi])).trans e602
  have z603 : zi h4 603 (A 1 g) = nI k := (G4 603 (by simp [rcGi])).trans e603
  have z604 : zi h4 604 (A 1 g) = nI m := (G4 604 (by simp [rcGi])).trans e604
  have L0 := rc_ls R4 (j := 0) (Or.inl (by omega))
  obtain ⟨f1, f2, f3, f4, f5, f6, m', f7, f8, f9⟩ := R4.2.2.2.2.2.1 f hf
  have f17 : zt h4 (A 2 f) ∈ [7] := by rw [f1]; decide
  have hr4 : rcRowLive (sau (slu σ 1 g []) 606 g 4) (12 * f + r) := hr
  have rm : r < m' := by
    have := hr4.2.1
    rw [show (12 * f + r) / 12 = f by omega, show (12 * f + r) % 12 = r by omega, f8, nI_clamp (by omega)] at this
    exact this
  have hrow : zs h4 7 (A 7 f) r = some (A 3 (12 * f + r)) := by
    rcases f9 r rm with y | y
    · have := hr4.2.2
      rw [y.1] at this; exact absurd this (by decide)
    · exact y.2.1
  have eO : sOver σ g = sru (sau (slu σ 1 g []) 606 g 4) (30 * (12 * f + r) + k) m 0 := by
    obtain ⟨l1, l2, l3⟩ := rc_len R hr
    unfold sOver
    rw [e601, e602, e603, e604, nI_clamp (by omega), nI_clamp (by omega), nI_clamp (by omega), nI_clamp (by omega)]
  rw [eO] at hQ
  refine ⟨hb4, hm4, A 5 0, R4.1.2.2.2.1, L0.1, ?_⟩
  rw [z601, z602, z603]
  refine sp_fget R4 hf ⟨fun b9 e9 => by cases e9; exact f17, _, rfl, f17, hm4, A 7 f, f3, by rw [f5]; decide, by rw [f6]; exact nI_in hr12 (by omega), fun r9 e9 => ⟨hm4, fun x10 e10 => ?_⟩⟩
  rw [nI_clamp (by omega), hrow] at e9
  subst e9
  subst e10
  obtain ⟨l1, l2, l3⟩ := rc_len R4 hr4
  have hkm4 : k + m ≤ sLen (sau (slu σ 1 g []) 606 g 4) (12 * f + r) := hkm
  have loop : ∀ (n j : Nat) (hh : ZH), j ≤ m → m + 1 ≤ j + n → rcAll G F h0 A (upE E (5 + 3 * g) (E (5 + 3 * g))) hh (sru (sau (slu σ 1 g []) 606 g 4) (30 * (12 * f + r) + k) j 0) cb b → zS3 h4 hh → fc_X5_clear_308 G b Q XE n hh bc bs (some (A 1 g)) v (some (A 3 (12 * f + r))) (nI (k + j)) := by
    intro n
    induction n with
    | zero => intro j hh h1 h2; omega
    | succ n ih =>
      intro j hh h1 h2 Rj s3
      have hmj : zt hh (A 1 g) ∈ [8, 9, 10, 11, 12, 13] := by rw [s3.1]; exact hm4
      have y603 : zi hh 603 (A 1 g) = nI k := (s3.2.2.1 603 _).trans z603
      have y604 : zi hh 604 (A 1 g) = nI m := (s3.2.2.1 604 _).trans z604
      refine ⟨_, rfl, hmj, hmj, fun w => ?_, fun w => ?_⟩
      · rw [y603, y604, nI_add] at w
        have e : j = m := by have := (nI_leI (by omega) (by omega)).mp w; omega
        subst e
        exact hQ _ hh Rj
      · rw [y603, y604, nI_add] at w
        have hjm : j < m := Classical.byContradiction fun q => w (nI_le (by omega) (by omega))
        refine ⟨_, rfl, by rw [s3.1]; exact (rc_rt R4 hr4).1, by rw [s3.2.1, l1]; exact nI_in (by omega) (by omega), fun b9 z => (nomatch z), fun h3 e3 x4 ex => ?_⟩
        rw [nI_clamp (by omega)] at e3
        subst e3
        rw [nI_1] at ex
        subst ex
        have R2 := rc_S3 (r := 12 * f + r) (k := k + j) (x := 0) (q := none) Rj (sru_row.mpr hr4) (by omega) rfl
        rw [show 30 * (12 * f + r) + (k + j) = 30 * (12 * f + r) + k + j by omega, sru_s] at R2
        exact ih (j + 1) _ (by omega) (by omega) R2 s3.ps
  exact ⟨m + 1, loop (m + 1) 0 h4 (by omega) (by omega) (by rw [sru_0]; exact R4) zS3.rf⟩
theorem sSet_ext {σ σ' : ZS} {g : Nat} (S : sSet σ g) (hn : sn σ' = sn σ) (ha : ∀ k x, k < 700 → sa σ' k x = sa σ k x) : sSet σ' g := by
  obtain ⟨f, r, k, m, e601, e602, e603, e604, hf, hr12, hr, hkm⟩ := S
  refine ⟨f, r, k, m, by rw [ha _ _ (by omega)]; exact e601, by rw [ha _ _ (by omega)]; exact e602, by rw [ha _ _ (by omega)]; exact e603, by rw [ha _ _ (by omega)]; exact e604, by rw [hn]; exact hf, hr12, ?_, ?_⟩
  · obtain ⟨r1, r2, r3⟩ := hr
    exact ⟨by rw [hn]; exact r1, by rw [ha _ _ (by omega)]; exact r2, by rw [ha _ _ (by omega)]; exact r3⟩
  · unfold sLen at *
    rw [ha _ _ (by omega)]; exact hkm
theorem sp_clear (R : rcAll G F h0 A E h σ cb b) (W : sRef σ) (K : sKinds σ) (hY : sLy σ) (hND : ∀ g, g < sn σ 1 → (sl σ 1 g).Nodup) (hS : ∀ g, g < sn σ 1 → sa σ 606 g = 3 → sSet σ g) (hy36 : ∀ p, p < sn σ 2 → (sy σ p).length ≤ 36) (hl36 : ∀ g, g < sn σ 1 → (sl σ 1 g).length ≤ 36)
    {Q : Int32 → ZH → Prop} {XE : String → Nat → ZH → Prop} {bc bs : Nat} {x : Int32} (hc : 90 ≤ bc) (hs : 3000 ≤ bs)
    (hX : ∀ v', sClear σ x = (v', σ) → v' < 0 → zXr XE h v')
    (hQ : ∀ v σ' A' E' h', sClear σ x = (v, σ') → ¬ v < 0 → rcAll G F h0 A' E' h' σ' cb b → Q v h') : fc_X5_clear G b Q XE h bc bs x := by
  have h40 := W.2.2.2.2.1 2
  have h41 := W.2.2.2.2.1 1
  have e203 : zi h 203 b = sa σ 203 0 := R.1.2.1
  have hb4 : zt h b ∈ [4] := by rw [R.1.1]; decide
  refine ⟨R.1.1, sp_grave R (fun g hg ex => ⟨fun z => (nomatch z), fun b2 e2 => ?_⟩) (fun hno => ⟨fun _ => ⟨_, _, Nat.le_refl _, Nat.le_refl _, sp_no (by omega) (by omega) (hX (-1) (by unfold sClear; rw [if_neg hno]) (by decide))⟩, fun b2 e2 => (nomatch e2)⟩)⟩
  have xc : x.toNatClampNeg = g := by rw [ex]; exact nI_clamp (by omega)
  have base : sClear σ x = sClearG σ g := by unfold sClear; rw [if_pos ⟨g, hg, ex⟩, xc]
  rw [base] at hX hQ
  unfold sClearG at hX hQ
  have hm := rc_gt R hg
  have e606 : zi h 606 (A 1 g) = sa σ 606 g := (R.2.2.2.2.1 g hg).2.1 606 (by simp [rcGi])
  have e601 : zi h 601 (A 1 g) = sa σ 601 g := (R.2.2.2.2.1 g hg).2.1 601 (by simp [rcGi])
  have h615 := (R.2.2.2.2.1 g hg).2.2.2.2.1
  have Lg := rc_lyi R hg
  have lg40 := (hY.1 g hg).1
  refine ⟨0, 0, Nat.zero_le _, Nat.zero_le _, sp_ok ⟨_, rfl, hm, fun w => ?_, fun w => ?_⟩⟩
  · rw [e606] at w
    exact ⟨_, _, Nat.le_refl _, Nat.le_refl _, sp_no (by omega) (by omega) (hX (-2) (by rw [if_pos w]) (by decide))⟩
  rw [e606] at w
  rw [if_neg (fun q => q w)] at hX hQ
  refine ⟨0, 0, Nat.zero_le _, Nat.zero_le _, sp_ok ⟨hb4, _, rfl, ?_⟩⟩
  rw [e203]
  refine sp_hasRest R W hg (fun hr => ⟨fun _ => ⟨_, _, Nat.le_refl _, Nat.le_refl _, sp_no (by omega) (by omega) (hX (-3) (by rw [if_pos hr]) (by decide))⟩, fun z => absurd z (by decide)⟩) (fun hr => ⟨fun z => absurd rfl z, fun _ => ⟨0, 0, Nat.zero_le _, Nat.zero_le _, sp_ok ⟨_, rfl, sp_kind R hg (K g hg) ?_⟩⟩⟩)
  rw [if_neg (by rw [hr]; decide)] at hX hQ
  -- behind the count of the meadows' room
  have S0 := hS g hg w
  have fin : ∀ (t : Int32), (t = if sa σ 10 g = 4 then 1 else 0) → ¬ (sa σ 10 g = 4 ∧ sMeadows σ (sa σ 601 g) (sn σ 1) < nI (sl σ 1 g).length) → fc_X5_clear_165 G b Q XE h (bc - 0 - 0 - 0) (bs - 0 - 0 - 0) (some (A 1 g)) t := by
    intro t et hn
    rw [if_neg hn] at hQ
    by_cases k4 : sa σ 10 g = 4
    · rw [if_pos k4] at et
      rw [if_pos k4, if_pos k4] at hQ
      subst et
      refine ⟨0, 0, Nat.zero_le _, Nat.zero_le _, sp_ok ⟨fun z => absurd z (by decide), fun _ => ⟨_, rfl, hm, _, h615, Lg.1, zl_size Lg ⟨fun z => absurd z (by decide), fun _ => ?_⟩⟩⟩⟩
      rw [List.length_map]
      have loop : ∀ (n c : Nat) (A' : ZA) (E' : Nat → Nat) (hh : ZH) (c1 s1 : Nat), c ≤ 4 → 5 ≤ c + n → 3 * (4 - c) + 1 ≤ c1 → 130 * (4 - c) + 1 ≤ s1 → (∀ k i, k < 8 → A' k i = A k i) → rcAll G F h0 A' E' hh (sUrns σ g c) cb b → sRef (sUrns σ g c) → fc_X5_clear_199 G b Q XE n hh c1 s1 (some (A 1 g)) (nI (sl σ 1 g).length) (nI c) := by
        intro n
        induction n with
        | zero => intro c A' E' hh c1 s1 h1 h2; omega
        | succ n ih =>
          intro c A' E' hh c1 s1 h1 h2 h3 h4 hA Rc Wc
          obtain ⟨u1, u2, u3, u4, u5⟩ := sUrns_el (σ := σ) (g := g) c
          have hgc : g < sn (sUrns σ g c) 1 := by rw [u1]; exact hg
          have col : sColumns (sUrns σ g c) g = 4 := by
            unfold sColumns
            rw [u3 10 g (by omega), if_neg (by rw [k4]; decide), if_pos k4]
          rw [← hA 1 g (by omega)]
          refine ⟨_, rfl, sp_columns Rc hgc ?_⟩
          rw [col]
          refine ⟨fun z => ?_, fun z => sp_in Rc hgc (Wc.2.1 g hgc).2 ⟨Rc.1.1, 3, 130, ?_, ?_, ?_⟩⟩
          · have ec : c = 4 := by have := (nI_leI (a := 4) (by omega) (by omega)).mp z; omega
            subst ec
            exact sp_over Rc hgc (sSet_ext S0 u1 u3) fun E2 h2 R2 => hQ _ _ A' E2 h2 rfl (by first | decide | exact nI_pos (by omega)) R2
          · have : c < 4 := Classical.byContradiction fun q => z (nI_le (a := 4) (by omega) (by omega))
            omega
          · have : c < 4 := Classical.byContradiction fun q => z (nI_le (a := 4) (by omega) (by omega))
            omega
          · have c4 : c < 4 := Classical.byContradiction fun q => z (nI_le (a := 4) (by omega) (by omega))
            refine sp_urn Rc Wc (fun i hi => by rw [u1] at hi; rw [u3 10 i (by omega)]; exact K i hi) hgc (fun p ep => ?_) (fun i hi => ?_) (Nat.le_refl _) (Nat.le_refl _) fun A2 E2 h6 R6 W6 hA6 x7 e7 => ?_
            · have hp := (Wc.2.1 g hgc).2 p (sIn_mem ep).1
              refine ⟨hp, ?_⟩
              rw [u1] at hp
              have := u2 p
              have := hy36 p hp
              omega
            · rw [u1] at hi
              have := u5 i
              have := hl36 i hi
              omega
            · rw [nI_1] at e7
              subst e7
              rw [hA 1 g (by omega)]
              exact ih (c + 1) A2 E2 h6 _ _ (by omega) (by omega) (by omega) (by omega) (fun k i hk => (hA6 k i hk).trans (hA k i hk)) R6 W6
      exact ⟨5, loop 5 0 A E h _ _ (by omega) (by omega) (by omega) (by omega) (fun _ _ _ => rfl) R W⟩
    · rw [if_neg k4] at et
      rw [if_neg k4, if_neg k4] at hQ
      subst et
      refine ⟨0, 0, Nat.zero_le _, Nat.zero_le _, sp_ok ⟨fun _ => ⟨fun _ => ?_, fun z => absurd rfl z⟩, fun z => absurd rfl z⟩⟩
      have loop : ∀ (n i : Nat) (A' : ZA) (E' : Nat → Nat) (hh : ZH) (c1 s1 : Nat), i ≤ (sl σ 1 g).length → (sl σ 1 g).length + 1 ≤ i + n → 2 * ((sl σ 1 g).length - i) + 1 ≤ c1 → 66 * ((sl σ 1 g).length - i) + 1 ≤ s1 → (∀ k i, k < 8 → A' k i = A k i) → rcAll G F h0 A' E' hh (sGone σ ((sl σ 1 g).take i)) cb b → sRef (sGone σ ((sl σ 1 g).take i)) → fc_X5_clear_232 G b Q XE n hh c1 s1 (some (A 1 g)) 0 (nI i) := by
        intro n
        induction n with
        | zero => intro i A' E' hh c1 s1 h1 h2; omega
        | succ n ih =>
          intro i A' E' hh c1 s1 h1 h2 h3 h4 hA Rc Wc
          obtain ⟨u1, u2, u3, u4⟩ := sGone_el ((sl σ 1 g).take i) σ
          have hgc : g < sn (sGone σ ((sl σ 1 g).take i)) 1 := by rw [u1]; exact hg
          have L := rc_lyi Rc hgc
          rw [← hA 1 g (by omega)]
          have hmc := rc_gt Rc hgc
          refine ⟨_, rfl, hmc, _, (Rc.2.2.2.2.1 g hgc).2.2.2.2.1, L.1, zl_size L ⟨fun z => ?_, fun z => ⟨hmc, L.1, ?_⟩⟩⟩
          · rw [List.length_map, u3] at z
            have ei : i = (sl σ 1 g).length := by have := (nI_leI (by omega) (by omega)).mp z; omega
            rw [ei, List.take_length] at Rc u1 u2 hgc
            exact sp_over Rc hgc (sSet_ext S0 u1 u2) fun E2 h2 R2 => hQ _ _ A' E2 h2 rfl (by first | decide | exact nI_pos (by omega)) R2
          · rw [List.length_map, u3] at z
            have hi : i < (sl σ 1 g).length := Classical.byContradiction fun q => z (nI_le (by omega) (by omega))
            have hgi : (sl σ 1 g)[i]? = some (sl σ 1 g)[i] := by simp [hi]
            have hp : (sl σ 1 g)[i] < sn σ 2 := (W.2.1 g hg).2 _ (List.getElem_mem hi)
            have hnot : ¬ (sl σ 1 g)[i] ∈ (sl σ 1 g).take i := by
              intro q
              have nd := hND g hg
              rw [← List.take_append_drop i (sl σ 1 g)] at nd
              have dis := (List.nodup_append.mp nd).2.2
              exact dis _ q _ (by rw [List.drop_eq_getElem_cons hi]; exact List.mem_cons_self) rfl
            have es := sGone_s (σ := σ) (sl σ 1 g) i _ hgi
            have ey := u4 _ hnot
            generalize (sl σ 1 g)[i] = p at *
            have hpc : p < sn (sGone σ ((sl σ 1 g).take i)) 2 := by rw [u1]; exact hp
            have m14 : zt hh (A' 0 p) ∈ [14] := by rw [(Rc.2.2.2.1 p hpc).1]; decide
            refine sp_lget Rc hgc (by rw [u3]; exact hgi) ⟨fun b9 e9 => by cases e9; exact m14, Rc.1.1, 2, 66, by omega, by omega, sp_goes Rc Wc hpc (by rw [ey]; have := hy36 p hp; omega) (Nat.le_refl _) (Nat.le_refl _) fun A2 E2 h7 R7 W7 hA7 x8 e8 => ?_⟩
            rw [nI_1] at e8
            subst e8
            rw [hA 1 g (by omega)]
            rw [← es] at R7 W7
            exact ih (i + 1) A2 E2 h7 _ _ (by omega) (by omega) (by omega) (by omega) (fun k i hk => (hA7 k i hk).trans (hA k i hk)) R7 W7
      exact ⟨(sl σ 1 g).length + 1, loop _ 0 A E h _ _ (by omega) (by omega) (by omega) (by omega) (fun _ _ _ => rfl) R W⟩
  -- the count
  have L1 := rc_ls R (j := 1) (Or.inl (by omega))
  have hlen1 : (rcCon A σ 1).length = sn σ 1 := by rw [rc_con1]; simp
  have cnt : ∀ (t : Int32), (t = if sa σ 10 g = 4 then 1 else 0) → fc_X5_clear_71 G b Q XE h (bc - 0 - 0 - 0) (bs - 0 - 0 - 0) (some (A 1 g)) t := by
    intro t et
    have loop : ∀ (n i : Nat), i ≤ sn σ 1 → sn σ 1 + 1 ≤ i + n → fc_X5_clear_78 G b Q XE n h (bc - 0 - 0 - 0) (bs - 0 - 0 - 0) (some (A 1 g)) t (sMeadows σ (sa σ 601 g) i) (nI i) := by
      intro n
      induction n with
      | zero => intro i h1 h2; omega
      | succ n ih =>
        intro i h1 h2
        refine ⟨hb4, A 5 1, R.1.2.2.2.2.1, L1.1, zl_size L1 ⟨fun z => ?_, fun z => ⟨hb4, L1.1, ?_⟩⟩⟩
        · rw [hlen1] at z
          have ei : i = sn σ 1 := by have := (nI_leI (by omega) (by omega)).mp z; omega
          subst ei
          refine ⟨fun y => fin t et fun q => ?_, fun y => ⟨_, rfl, hm, _, h615, Lg.1, zl_size Lg ⟨fun y2 => ?_, fun y2 => ?_⟩⟩⟩
          · rw [if_pos q.1] at et
            rw [et] at y; exact absurd y (by decide)
          · rw [List.length_map] at y2
            have k4 : sa σ 10 g = 4 := Classical.byContradiction fun q => by rw [if_neg q] at et; exact y et
            rw [if_pos ⟨k4, y2⟩] at hX
            exact ⟨_, _, Nat.le_refl _, Nat.le_refl _, sp_no (by omega) (by omega) (hX (-4) rfl (by decide))⟩
          · rw [List.length_map] at y2
            exact fin t et fun q => y2 q.2
        · rw [hlen1] at z
          have hi : i < sn σ 1 := Classical.byContradiction fun q => z (nI_le (by omega) (by omega))
          have es : sMeadows σ (sa σ 601 g) (i + 1) = sMeadows σ (sa σ 601 g) i + (if sMeadow σ i (sa σ 601 g) then 40 - nI (sl σ 1 i).length else 0) := rfl
          refine sp_gget R hi ⟨fun b9 e9 => by cases e9; exact rc_gt R hi, _, rfl, hm, R.1.1, ?_⟩
          rw [e601]
          refine sp_isMeadow R K hi (fun mm => ⟨fun y => absurd y (by decide), fun _ => ⟨hb4, L1.1, sp_gget R hi ⟨fun b9 e9 => by cases e9; exact rc_gt R hi, _, rfl, rc_gt R hi, _, (R.2.2.2.2.1 i hi).2.2.2.2.1, (rc_lyi R hi).1, zl_size (rc_lyi R hi) ?_⟩⟩⟩) (fun mm => ⟨fun _ => ?_, fun y => absurd rfl y⟩)
          · intro x1 ex1 x2 ex2
            rw [nI_1] at ex2
            subst ex2
            rw [List.length_map] at ex1
            rw [if_pos mm] at es
            rw [ex1, ← es]
            exact ih (i + 1) (by omega) (by omega)
          · intro x1 ex1 x2 ex2
            rw [nI_1] at ex2
            subst ex2
            rw [if_neg mm] at es
            rw [ex1, ← es]
            exact ih (i + 1) (by omega) (by omega)
    exact ⟨sn σ 1 + 1, loop _ 0 (by omega) (by omega)⟩
  exact ⟨fun z => cnt 0 (by rw [if_neg z]), fun z => cnt 1 (by rw [if_pos z])⟩
end ZCR
