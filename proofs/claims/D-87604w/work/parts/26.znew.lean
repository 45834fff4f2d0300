/-! METHODS of the component on the picture of a book: the acts 'grave' and 'person'. -/
set_option maxRecDepth 100000
section ZNW
variable {G : Nat × Nat × Nat} {F : Nat → Prop} {h0 h h' : ZH} {A A' : ZA} {E E' : Nat → Nat} {σ σ' : ZS} {cb b : Nat} {C : Nat → List Nat}
theorem zXr.fr {XE : String → Nat → ZH → Prop} {v : Int32} (x : zXr XE h v) (fr : zFr h h') : zXr XE h' v := fun a h2 h1 h3 h4 => x a h2 h1 h3 (fr.tr h4)
/-- the act 'grave', in a row there is -/
def sNewGraveR (σ : ZS) (R : Nat) (f r p k w : Int32) : Int32 × ZS :=
  if sAsks σ R p k w = 0 then
    if sKindOk (sa σ 5 R) k then (nI (sn σ 1), snu (sru (sgu σ (sn σ 1) (sGv (sn σ 1) k f r p w (sa σ 500 f.toNatClampNeg))) (30 * R + p.toNatClampNeg) w.toNatClampNeg (nI (10 + sn σ 1))) 1 (sn σ 1 + 1))
    else (-8, σ)
  else (sAsks σ R p k w, σ)
def sNewGrave (σ : ZS) (f r p k w : Int32) : Int32 × ZS :=
  if ¬ k < 1 ∧ ¬ 6 < k ∧ sWide k w ∧ sn σ 1 < 150 then
    if sRowF σ f r = 0 then sNewGraveR σ (12 * f.toNatClampNeg + r.toNatClampNeg) f r p k w else (sRowF σ f r, σ)
  else (-1, σ)
theorem sWide_n {k w : Int32} (h : sWide k w) : ∃ m, 1 ≤ m ∧ m ≤ 4 ∧ w = nI m := by
  unfold sWide at h
  by_cases k3 : k = 3
  · rw [if_pos k3] at h
    have h0 : ¬ w < 0 := fun q => h.1 (Int32.lt_trans q (by decide))
    obtain ⟨j, hj, rfl⟩ := nI_of h0
    exact ⟨j, Classical.byContradiction fun q => h.1 (nI_lt (b := 2) (by omega) (by omega)), Classical.byContradiction fun q => h.2 (nI_lt (a := 4) (by omega) (by omega)), rfl⟩
  · rw [if_neg k3] at h
    by_cases k5 : k = 5
    · rw [if_pos k5] at h; exact ⟨3, by omega, by omega, h⟩
    · rw [if_neg k5] at h; exact ⟨1, by omega, by omega, h⟩
theorem zS3.L {a e : Nat} {l : List Nat} (s : zS3 h h') (k : zL h a e l) : zL h' a e l := by
  obtain ⟨s1, s2, s3, s4, s5, s6⟩ := s
  obtain ⟨k1, k2, k3, k4, k5, k6, k7, k8⟩ := k
  exact ⟨(s1 a).trans k1, (s3 302 a).trans k2, (s4 301 a).trans k3, (s1 e).trans k4, by rw [s2]; exact k5, by rw [s2]; exact k6, fun i hi => (s6 2 e i (by decide)).trans (k7 i hi), fun x hx => by rw [s1]; exact k8 x hx⟩
theorem rcCon_snu {k n j : Nat} (hj : j ≠ k) (hk : k < 3) : rcCon A (snu σ k n) j = rcCon A σ j := by
  have e : ∀ i, i = j → sn (snu σ k n) i = sn σ i := fun i hi => by rw [sn_nu, if_neg (by omega)]
  unfold rcCon
  by_cases h1 : j = 0
  · rw [if_pos h1, if_pos h1, e 0 h1.symm]
  rw [if_neg h1, if_neg h1]
  by_cases h2 : j = 1
  · rw [if_pos h2, if_pos h2, e 1 h2.symm]
  rw [if_neg h2, if_neg h2]
  by_cases h3 : j = 2
  · rw [if_pos h3, if_pos h3, e 2 h3.symm]
  rw [if_neg h3, if_neg h3]
  rfl
theorem sp_newGrave (R : rcAll G F h0 A E h σ cb b) (W : sRef σ) {Q : Int32 → ZH → Prop} {XE : String → Nat → ZH → Prop} {bc bs : Nat} {f r p k w : Int32} (hc : 40 ≤ bc) (hs : 8000 ≤ bs)
    (hX : ∀ v', sNewGrave σ f r p k w = (v', σ) → v' < 0 → zXr XE h v')
    (hQ : ∀ v σ' A' E' h', sNewGrave σ f r p k w = (v, σ') → ¬ v < 0 → rcAll G F h0 A' E' h' σ' cb b → Q v h') : fc_X5_newGrave G b Q XE h bc bs f r p k w := by
  have hb4 : zt h b ∈ [4] := by rw [R.1.1]; decide
  have h40 := W.2.2.2.2.1 1
  have L1 := rc_ls R (j := 1) (Or.inl (by omega))
  have hlen : (rcCon A σ 1).length = sn σ 1 := by rw [rc_con1]; simp
  have bad : ¬ (¬ k < 1 ∧ ¬ 6 < k ∧ sWide k w ∧ sn σ 1 < 150) → fc_X5_newGrave_40 G b Q XE h bc bs f r p k w := fun hn => ⟨bc, bs, Nat.le_refl _, Nat.le_refl _, sp_no (by omega) (by omega) (hX (-1) (by unfold sNewGrave; rw [if_neg hn]) (by decide))⟩
  refine ⟨fun z => bad fun q => q.1 z, fun z1 => ⟨fun z => bad fun q => q.2.1 z, fun z6 => sp_isWide (fun hw => ⟨fun z => absurd z (by decide), fun _ => ⟨hb4, A 5 1, R.1.2.2.2.2.1, L1.1, zl_size L1 ⟨fun z => ?_, fun z => ?_⟩⟩⟩) (fun hw => ⟨fun _ => bad fun q => hw q.2.2.1, fun z => absurd rfl z⟩)⟩⟩
  · rw [hlen] at z
    exact absurd z (nI_ge (b := 150) (by omega) (by omega))
  have base0 : sNewGrave σ f r p k w = if sRowF σ f r = 0 then sNewGraveR σ (12 * f.toNatClampNeg + r.toNatClampNeg) f r p k w else (sRowF σ f r, σ) := by
    unfold sNewGrave; rw [if_pos ⟨z1, z6, hw, by omega⟩]
  rw [base0] at hX hQ
  refine ⟨0, 0, Nat.zero_le _, Nat.zero_le _, sp_ok ⟨R.1.1, 2, 1007, (by omega : 2 ≤ bc), (by omega : 1007 ≤ bs), sp_row R (Nat.le_refl _) (Nat.le_refl _) (fun v hv hn => hX v (by rw [if_neg (by rw [hv]; exact fun q => by rw [q] at hn; exact absurd hn (by decide)), hv]) hn) fun i j hi hj ef er hr hrow hz => ⟨R.1.1, 20, 5100, (by omega : 20 ≤ bc - 2), (by omega : 5100 ≤ bs - 1007), ?_⟩⟩⟩
  have h640 := rc_sz0 R
  have ic : f.toNatClampNeg = i := by rw [ef]; exact nI_clamp (by omega)
  have jc : r.toNatClampNeg = j := by rw [er]; exact nI_clamp (by omega)
  rw [if_pos hz, ic, jc] at hX hQ
  unfold sNewGraveR at hX hQ
  rw [ic] at hX hQ
  obtain ⟨m, m1, m4, em⟩ := sWide_n hw
  subst em
  have mc : (nI m).toNatClampNeg = m := nI_clamp (by omega)
  rw [mc] at hX hQ
  obtain ⟨l1, l2, l3⟩ := rc_len R hr
  refine sp_asks R W hr m4 (Nat.le_refl _) (Nat.le_refl _) (fun v hv hn => hX v (by rw [if_neg (by rw [hv]; exact fun q => by rw [q] at hn; exact absurd hn (by decide)), hv]) hn) fun ha0 => ?_
  rw [if_pos ha0] at hX hQ
  have hask : sAsk σ (12 * i + j) p m 0 = 0 := by
    unfold sAsks at ha0
    rw [mc] at ha0
    refine Classical.byContradiction fun q => ?_
    rw [if_pos q] at ha0
    exact q ha0
  have hfree := sAsk_0 m 0 hask
  obtain ⟨p0, p1, p2⟩ := hfree 0 (by omega) (by omega)
  rw [nI_0, Int32.add_zero] at p0 p1 p2
  obtain ⟨kk, hkk, ep⟩ := nI_of p0
  subst ep
  have kc : (nI kk).toNatClampNeg = kk := nI_clamp hkk
  rw [kc] at hX hQ
  rw [l3] at p1
  have hkl : kk < sLen σ (12 * i + j) := (nI_ltI hkk (by omega)).mp p1
  have hkm : kk + m ≤ sLen σ (12 * i + j) := by
    obtain ⟨u0, u1, u2⟩ := hfree (m - 1) (by omega) (by omega)
    rw [nI_add, l3] at u1
    have := (nI_ltI (a := kk + (m - 1)) (by omega) (by omega)).mp u1
    omega
  obtain ⟨f1, f2, f3, f4, f5, f6, m', f7, f8, f9⟩ := R.2.2.2.2.2.1 i hi
  have f17 : zt h (A 2 i) ∈ [7] := by rw [f1]; decide
  have L0 := rc_ls R (j := 0) (Or.inl (by omega))
  rw [ef]
  refine ⟨hb4, A 5 1, R.1.2.2.2.2.1, L1.1, zl_size L1 ⟨hb4, A 5 0, R.1.2.2.2.1, L0.1, sp_fget R hi ⟨fun b9 e9 => by cases e9; exact f17, _, rfl, f17, 5, 26, (by omega : 5 ≤ bc - 2 - 20), (by omega : 26 ≤ bs - 1007 - 5100), sp_x1grave R.2.2.1.2.2.1 z1 z6 (Nat.le_refl _) (Nat.le_refl _) fun h22 a la ea lb eb gn => ?_⟩⟩⟩
  rw [hlen, f2] at gn
  obtain ⟨n1, n2, ⟨i600, i601, i602, i603, i604, i605, i606, i608, i610, i612⟩, ⟨r607, r609, r614, r613, r611, r615⟩, nLa, nLb, za, zla, zlb, na1, na2, na3, nea, neb, neab⟩ := gn
  -- the picture with a place for the grave
  have g1 : rcAg σ (sgu σ (sn σ 1) (sGv (sn σ 1) k f r (nI kk) (nI m) (sa σ 500 i))) A (upA (upA (upA A 1 (sn σ 1) a) 5 (4 + 3 * sn σ 1) la) 5 (5 + 3 * sn σ 1) lb) E (upE (upE E (4 + 3 * sn σ 1) ea) (5 + 3 * sn σ 1) eb) := by
    refine ⟨fun k => rfl, fun k' i' hk => ?_, fun k' i' hi' => ?_, fun _ _ => rfl, fun k' i' hk => ?_, fun j' hj' => ?_⟩
    · unfold sLiveA rcRowLive at hk
      rw [sa_gu, if_neg (by omega)]
    · rw [sl_gu, if_neg (by omega)]
    · unfold sIdx rcRowLive rcLive at hk
      unfold upA
      rw [if_neg (by omega), if_neg (by omega), if_neg (by omega)]
    · unfold rcLive at hj'
      rw [upE_ne (by omega), upE_ne (by omega)]
  have R1 : rcAll G F h0 _ _ h22 _ cb b := ((rc_ag g1 W R.toC).fr n1).all fun j hj => (g1.con W hj).symm
  have A1 : upA (upA (upA A 1 (sn σ 1) a) 5 (4 + 3 * sn σ 1) la) 5 (5 + 3 * sn σ 1) lb 1 = upA A 1 (sn σ 1) a 1 := (upA_k (by decide)).trans (upA_k (by decide))
  have A1g : upA (upA (upA A 1 (sn σ 1) a) 5 (4 + 3 * sn σ 1) la) 5 (5 + 3 * sn σ 1) lb 1 (sn σ 1) = a := by rw [A1]; exact upA_at
  have A1i : ∀ x, x < sn σ 1 → upA (upA (upA A 1 (sn σ 1) a) 5 (4 + 3 * sn σ 1) la) 5 (5 + 3 * sn σ 1) lb 1 x = A 1 x := fun x hx => by rw [A1]; exact upA_i (by omega)
  have A0 : upA (upA (upA A 1 (sn σ 1) a) 5 (4 + 3 * sn σ 1) la) 5 (5 + 3 * sn σ 1) lb 0 = A 0 := (upA_k (by decide)).trans ((upA_k (by decide)).trans (upA_k (by decide)))
  have A3 : upA (upA (upA A 1 (sn σ 1) a) 5 (4 + 3 * sn σ 1) la) 5 (5 + 3 * sn σ 1) lb 3 = A 3 := (upA_k (by decide)).trans ((upA_k (by decide)).trans (upA_k (by decide)))
  have A5l : ∀ x, rcLive σ x → upA (upA (upA A 1 (sn σ 1) a) 5 (4 + 3 * sn σ 1) la) 5 (5 + 3 * sn σ 1) lb 5 x = A 5 x := fun x hx => g1.2.2.2.2.1 5 x (by unfold sIdx; exact Or.inr (Or.inr (Or.inr (Or.inr (Or.inr (Or.inr (Or.inl ⟨rfl, hx⟩)))))))
  have A5a : upA (upA (upA A 1 (sn σ 1) a) 5 (4 + 3 * sn σ 1) la) 5 (5 + 3 * sn σ 1) lb 5 (4 + 3 * sn σ 1) = la := (upA_i (by omega)).trans upA_at
  have A5b : upA (upA (upA A 1 (sn σ 1) a) 5 (4 + 3 * sn σ 1) la) 5 (5 + 3 * sn σ 1) lb 5 (5 + 3 * sn σ 1) = lb := upA_at
  have Ea : upE (upE E (4 + 3 * sn σ 1) ea) (5 + 3 * sn σ 1) eb (4 + 3 * sn σ 1) = ea := (upE_ne (by omega)).trans (upE_eq rfl)
  have Eb : upE (upE E (4 + 3 * sn σ 1) ea) (5 + 3 * sn σ 1) eb (5 + 3 * sn σ 1) = eb := upE_eq rfl
  have El : ∀ x, rcLive σ x → upE (upE E (4 + 3 * sn σ 1) ea) (5 + 3 * sn σ 1) eb x = E x := g1.2.2.2.2.2
  generalize hA' : upA (upA (upA A 1 (sn σ 1) a) 5 (4 + 3 * sn σ 1) la) 5 (5 + 3 * sn σ 1) lb = A' at *
  generalize hE' : upE (upE E (4 + 3 * sn σ 1) ea) (5 + 3 * sn σ 1) eb = E' at *
  have hr1 : rcRowLive (sgu σ (sn σ 1) (sGv (sn σ 1) k f r (nI kk) (nI m) (sa σ 500 i))) (12 * i + j) := (g1.row _).mpr hr
  have len1 : sLen (sgu σ (sn σ 1) (sGv (sn σ 1) k f r (nI kk) (nI m) (sa σ 500 i))) (12 * i + j) = sLen σ (12 * i + j) := rfl
  have hsp : some a = rcSpot A' h22 cb (nI (10 + sn σ 1)) := by
    have e : nI (10 + sn σ 1) - 10 = nI (sn σ 1) := by
      have := zs_sub (a := 10 + sn σ 1) (b := 10) (by omega)
      rw [show (10 + sn σ 1) - 10 = sn σ 1 by omega] at this
      exact this
    unfold rcSpot
    rw [if_neg (fun q => nI_ne0 (by omega) (by omega) q), if_neg (fun q => by have := (nI_eq (a := 10 + sn σ 1) (b := 1) (by omega) (by omega)).mp q; omega), if_neg (fun q => by have := (nI_eq (a := 10 + sn σ 1) (b := 2) (by omega) (by omega)).mp q; omega), e, rfx_some _ (by omega), A1g]
  have hT : ∀ b9, some a = some b9 → zt h22 b9 ∈ [2, 3, 8, 9, 10, 11, 12, 13] := fun b9 e9 => by
    cases e9
    rw [n2]
    have := rcKind_pos k
    simp only [List.mem_cons, List.not_mem_nil, or_false]; omega
  have tg : zt h22 (A 3 (12 * i + j)) = (if sa σ 5 (12 * i + j) = 0 then 23 else if sa σ 5 (12 * i + j) = 1 then 24 else if sa σ 5 (12 * i + j) = 2 then 25 else 26) := by
    rw [(n1 _ (by have := (rc_rt R hr).1; intro q; rw [q] at this; exact absurd this (by decide))).1]; exact hrow.1
  refine ⟨by rw [R1.1.1], 4, 1017, (by omega : 4 ≤ bc - 2 - 20 - 5), (by omega : 1017 ≤ bs - 1007 - 5100 - 26), ?_⟩
  by_cases hok : sKindOk (sa σ 5 (12 * i + j)) k
  · rw [if_pos hok] at hQ
    rw [← A3] at tg ⊢
    refine sp_store R1 hr1 (by rw [len1]; exact hkm) hsp hT (fun b9 e9 => ?_) fun h25 R2 s3 => ?_
    · cases e9
      rw [n2, tg]; exact zas_kind.mpr hok
    · have g613 : sa (sru (sgu σ (sn σ 1) (sGv (sn σ 1) k f r (nI kk) (nI m) (sa σ 500 i))) (30 * (12 * i + j) + kk) m (nI (10 + sn σ 1))) 613 (sn σ 1) = -1 := by
        rw [sa_ru_ne (by decide), sa_gu, if_pos ⟨Or.inr (by omega), rfl⟩]; rfl
      have sg : ∀ c, 600 ≤ c → c < 700 → sa (sru (sgu σ (sn σ 1) (sGv (sn σ 1) k f r (nI kk) (nI m) (sa σ 500 i))) (30 * (12 * i + j) + kk) m (nI (10 + sn σ 1))) c (sn σ 1) = sGv (sn σ 1) k f r (nI kk) (nI m) (sa σ 500 i) c := fun c h1 h2 => by
        rw [sa_ru_ne (by omega), sa_gu, if_pos ⟨Or.inr ⟨h1, h2⟩, rfl⟩]
      have hG : rcGrave A' h25 (sru (sgu σ (sn σ 1) (sGv (sn σ 1) k f r (nI kk) (nI m) (sa σ 500 i))) (30 * (12 * i + j) + kk) m (nI (10 + sn σ 1))) (sn σ 1) := by
        obtain ⟨s31, s32, s33, s34, s35, s36⟩ := s3
        unfold rcGrave
        rw [A1g, A0, A5a, A5b, s31, n2, sa_ru_ne (by decide), sa_gu, if_pos ⟨Or.inl rfl, rfl⟩]
        refine ⟨rfl, fun c hc' => ?_, fun c hc' => ?_, by rw [s34]; exact r611, by rw [s34]; exact r615, Or.inl ⟨by rw [s34]; exact r613, g613⟩⟩
        · rw [sg c (by simp [rcGi] at hc'; omega) (by simp [rcGi] at hc'; omega), s33]
          simp only [rcGi, List.mem_cons, List.not_mem_nil, or_false] at hc'
          rcases hc' with q | q | q | q | q | q | q | q | q | q <;> subst q
          · exact i600
          · rw [i601, ef]; rfl
          · exact i602
          · exact i603
          · exact i604
          · exact i605
          · exact i606
          · exact i608
          · exact i610
          · exact i612
        · rw [sg c (by simp [rcGr] at hc'; omega) (by simp [rcGr] at hc'; omega), s34]
          simp only [rcGr, List.mem_cons, List.not_mem_nil, or_false] at hc'
          rcases hc' with q | q | q <;> subst q
          · exact r607
          · exact r609
          · exact r614
      have conN : ∀ x, x = 4 + 3 * sn σ 1 ∨ x = 5 + 3 * sn σ 1 → rcCon A' (sru (sgu σ (sn σ 1) (sGv (sn σ 1) k f r (nI kk) (nI m) (sa σ 500 i))) (30 * (12 * i + j) + kk) m (nI (10 + sn σ 1))) x = [] := by
        intro x hx
        have e0 : ∀ y, sl (sru (sgu σ (sn σ 1) (sGv (sn σ 1) k f r (nI kk) (nI m) (sa σ 500 i))) (30 * (12 * i + j) + kk) m (nI (10 + sn σ 1))) y (sn σ 1) = [] := fun y => if_pos rfl
        unfold rcCon
        rw [if_neg (by omega), if_neg (by omega), if_neg (by omega), if_neg (by omega)]
        rcases hx with q | q
        · rw [if_pos (by omega), show (x - 4) / 3 = sn σ 1 by omega, e0]; rfl
        · rw [if_neg (by omega), show (x - 5) / 3 = sn σ 1 by omega, e0]; rfl
      have Gv := R.2.2.2.2.1
      have Ls := R.2.2.2.2.2.2.1
      have kL : ∀ c, zt h c ≠ 0 → zt h25 c = zt h c := fun c hc => (s3.1 c).trans (n1 c hc).1
      have lz : ∀ e, e = G.1 ∨ zt h e = 0 → ¬ F e ∨ zl h25 e = 0 := fun e he => by
        rcases he with q | q
        · right
          rw [q, s3.2.1, (n1 G.1 (by rw [R.2.2.1.2.2.1.1]; decide)).2.1]; exact R.2.2.1.2.2.1.2
        · exact Or.inl (rc_nz R q)
      have le : ∀ e x, e = G.1 ∨ zt h e = 0 → rcLive σ x → E x ≠ e ∨ zl h25 e = 0 := fun e x he hx => by
        rcases he with q | q
        · right
          rw [q, s3.2.1, (n1 G.1 (by rw [R.2.2.1.2.2.1.1]; decide)).2.1]; exact R.2.2.1.2.2.1.2
        · exact Or.inl fun y => (Ls x hx).ne.2.1 (y ▸ q)
      have lvE : ∀ x, rcLive (sru (sgu σ (sn σ 1) (sGv (sn σ 1) k f r (nI kk) (nI m) (sa σ 500 i))) (30 * (12 * i + j) + kk) m (nI (10 + sn σ 1))) x → rcLive σ x := fun x hx => hx
      have R3 := rc_incG R2.toC (g := sn σ 1) rfl hG g613 (fun x hx => by
          rw [conN x hx]
          rcases hx with q | q
          · rw [q, A5a, Ea]; exact s3.L nLa
          · rw [q, A5b, Eb]; exact s3.L nLb)
        (fun x hx q => by rw [A1i x hx, A1g] at q; have := (Gv x hx).1; rw [q, za] at this; exact (rcKind_pos _).1 this.symm)
        (by rw [A1g]; exact rc_nz R za)
        (fun x y hy hx q => by
          rw [A5l y (lvE y hy)] at q
          rcases hx with v | v
          · rw [v, A5a] at q; exact (Ls y (lvE y hy)).ne.1 (q ▸ zla)
          · rw [v, A5b] at q; exact (Ls y (lvE y hy)).ne.1 (q ▸ zlb))
        (by rw [A5a, A5b]; exact na3)
        (fun x hx => by
          rcases hx with v | v
          · rw [v, A5a]; exact rc_nz R zla
          · rw [v, A5b]; exact rc_nz R zlb)
        (fun x y hy hx => by
          rw [El y (lvE y hy)]
          rcases hx with v | v
          · rw [v, Ea]; exact le ea y nea (lvE y hy)
          · rw [v, Eb]; exact le eb y neb (lvE y hy))
        (by
          rw [Ea, Eb]
          rcases neab with q | q
          · exact Or.inl q
          · right
            rw [q, s3.2.1, (n1 G.1 (by rw [R.2.2.1.2.2.1.1]; decide)).2.1]; exact R.2.2.1.2.2.1.2)
        (fun x hx => by
          rcases hx with v | v
          · rw [v, Ea]; exact lz ea nea
          · rw [v, Eb]; exact lz eb neb)
      have l1' : rcLive (snu (sru (sgu σ (sn σ 1) (sGv (sn σ 1) k f r (nI kk) (nI m) (sa σ 500 i))) (30 * (12 * i + j) + kk) m (nI (10 + sn σ 1))) 1 (sn σ 1 + 1)) 1 := Or.inl (by omega)
      have L4 := R3.2.2.2.2.2.2.1 1 l1'
      have c1 : rcCon A' (sru (sgu σ (sn σ 1) (sGv (sn σ 1) k f r (nI kk) (nI m) (sa σ 500 i))) (30 * (12 * i + j) + kk) m (nI (10 + sn σ 1))) 1 = rcCon A σ 1 := by
        rw [rc_con1, rc_con1]
        exact List.map_congr_left fun x hx => A1i x (List.mem_range.mp hx)
      have ta25 : zt h25 a = rcKind k := (s3.1 a).trans n2
      refine ⟨by rw [R3.1.1]; decide, _, R3.1.2.2.2.2.1, L4.1, 1, 64, (by omega : 1 ≤ bc - 2 - 20 - 5 - 4), (by omega : 64 ≤ bs - 1007 - 5100 - 26 - 1017), ?_⟩
      refine zl_add L4 (by rw [c1, hlen]; omega) (by
          rw [ta25]
          have := rcKind_pos k
          simp only [zas, List.mem_cons, List.not_mem_nil, or_false]; omega) (Nat.le_refl _) (Nat.le_refl _) fun e' h32 hL hA => ⟨a, rfl, ?_, ?_⟩
      · rw [(hA.1 a (by rw [ta25]; exact (rcKind_pos k).1)).1, ta25]; exact rc_tag
      · have e600 : zi h32 600 a = nI (sn σ 1) := by
          have n5 : a ≠ A' 5 1 := fun q => by
            have := L4.1
            rw [← q, ta25] at this
            have := rcKind_pos k
            omega
          rw [(hA.2.1 a (by rw [ta25]; exact (rcKind_pos k).1) n5 600).1, s3.2.2.1]; exact i600
        rw [e600]
        refine hQ _ _ A' _ h32 rfl (nI_pos (by omega)) ((rc_LC R3 l1' hL hA).all fun x hx => ?_)
        by_cases hx1 : x = 1
        · rw [upC_eq hx1, hx1, c1, rc_con1, rc_con1]
          show _ = (List.range (sn σ 1 + 1)).map _
          rw [List.range_succ, List.map_append, List.map_cons, List.map_nil, A1g]
          rw [List.map_congr_left (fun y hy => A1i y (List.mem_range.mp hy))]
        · rw [upC_ne hx1, rcCon_snu hx1 (by omega)]
  · rw [if_neg hok] at hX
    rw [← A3] at tg ⊢
    refine sp_storeNo R1 hr1 (by omega) (by rw [len1]; exact hkm) hT (fun q => hok ?_) (Nat.le_refl _) (Nat.le_refl _) ((hX (-8) rfl (by decide)).fr n1)
    have := q a rfl
    rw [n2, tg] at this
    exact zas_kind.mp this
end ZNW
