/-! METHODS of the component on the picture of a book: the act 'person'. -/
set_option maxRecDepth 100000
section ZPE
variable {G : Nat × Nat × Nat} {F : Nat → Prop} {h0 h h' : ZH} {A A' : ZA} {E E' : Nat → Nat} {σ σ' : ZS} {cb b : Nat} {C : Nat → List Nat}
/-- a new person's attributes -/
def sPv (p : Nat) (born : Int32) : Nat → Int32 := fun c => if c = 700 then nI p else if c = 701 then born else if c = 704 ∨ c = 705 ∨ c = 706 ∨ c = 707 ∨ c = 708 ∨ c = 710 then -1 else 0
def spu (σ : ZS) (p : Nat) (v : Nat → Int32) : ZS := (σ.1, (fun k i => if 700 ≤ k ∧ i = p then v k else σ.2.1 k i), σ.2.2.1, (fun p' => if p' = p then [] else σ.2.2.2 p'))
theorem sa_pu (σ : ZS) (p : Nat) (v : Nat → Int32) (k i : Nat) : sa (spu σ p v) k i = if 700 ≤ k ∧ i = p then v k else sa σ k i := rfl
theorem sy_pu (σ : ZS) (p : Nat) (v : Nat → Int32) (i : Nat) : sy (spu σ p v) i = if i = p then [] else sy σ i := rfl
/-- the act 'person' -/
def sNewPerson (σ : ZS) (v : Int32) : Int32 × ZS := if ¬ sa σ 203 0 < v ∧ ¬ v < -40000 ∧ sn σ 2 < 150 then (nI (sn σ 2), snu (spu σ (sn σ 2) (sPv (sn σ 2) v)) 2 (sn σ 2 + 1)) else (-1, σ)
/-- what a new person's cells are -/
def zPnew (hh h' : ZH) (G : Nat × Nat × Nat) (a la ea : Nat) (v1 v2 : Int32) : Prop :=
  zFr hh h' ∧ zt h' a = 14 ∧ (zi h' 700 a = v1 ∧ zi h' 701 a = v2 ∧ zi h' 702 a = 0 ∧ zi h' 703 a = 0 ∧ zi h' 708 a = -1 ∧ zi h' 709 a = 0 ∧ zi h' 711 a = 0 ∧ zi h' 712 a = 0) ∧ (zr h' 704 a = none ∧ zr h' 705 a = none ∧ zr h' 706 a = none ∧ zr h' 707 a = none ∧ zr h' 710 a = none ∧ zr h' 713 a = some la) ∧
  zL h' la ea [] ∧ zt hh a = 0 ∧ zt hh la = 0 ∧ a ≠ la ∧ (ea = G.1 ∨ zt hh ea = 0)
theorem sp_x16 {hh : ZH} {Q : ZH → Prop} {a bc bs : Nat} {v1 v2 : Int32} (z : zt hh a = 0) (hg : zt hh G.1 = 22 ∧ zl hh G.1 = 0) (hc : 2 ≤ bc) (hs : 4 ≤ bs)
    (hQ : ∀ h' la ea, zPnew hh h' G a la ea v1 v2 → Q h') : fc_X16_init G a Q (znew hh a 14) bc bs v1 v2 := by
  have t0 : zt (znew hh a 14) a = 14 := by rw [zt_new, if_pos rfl]
  have i0 : ∀ f, zi (znew hh a 14) f a = 0 := fun f => by rw [zi_new, if_pos rfl]
  have r0 : ∀ f, zr (znew hh a 14) f a = none := fun f => by rw [zr_new, if_pos rfl]
  have fr0 : zFr hh (znew hh a 14) := zFr.new z
  generalize znew hh a 14 = h at *
  refine ⟨by rw [t0]; decide, fun h1 e1 => ⟨by omega, by omega, fun a2 h3 z2 e3 => ⟨1, 1, by omega, by omega, ?_⟩⟩⟩
  have t1 : zt h1 a = 14 := by rw [e1]; exact t0
  have fr1 : zFr hh h1 := by rw [e1]; exact zFr.pi z fr0
  have a12 : a ≠ a2 := fun q => by rw [← q, t1] at z2; exact absurd z2 (by decide)
  have z2' : zt hh a2 = 0 := fr1.z z2
  have fr3 : zFr hh h3 := by rw [e3]; exact zFr.new' z2' fr1
  have g3 : zt h3 G.1 = 22 ∧ zl h3 G.1 = 0 := by
    obtain ⟨u1, u2, -⟩ := fr3 G.1 (by omega)
    exact ⟨u1.trans hg.1, u2.trans hg.2⟩
  have t3 : zt h3 a = 14 := by rw [e3, zt_new, if_neg a12]; exact t1
  have t32 : zt h3 a2 = 5 := by rw [e3, zt_new, if_pos rfl]
  have i3 : ∀ f, zi h3 f a = if f = 708 then -1 else 0 := fun f => by
    rw [e3, zi_new, if_neg a12, e1, zi_pi, i0]
    by_cases q : f = 708
    · rw [if_pos ⟨q, rfl⟩, if_pos q]
    · rw [if_neg (fun w => q w.1), if_neg q]
  have r3 : ∀ f, zr h3 f a = none := fun f => by rw [e3, zr_new, if_neg a12, e1, zr_pi, r0]
  have n1 : (1 : Int32) = nI 1 := by decide
  rw [n1]
  refine zl_newN (n := 1) (by omega) t32 (by rw [e3, zi_new, if_pos rfl]) g3 (Nat.le_refl _) (by omega) fun h6 e La he q1 q2 => ?_
  have fr6 : zFr hh h6 := fr3.lst z2' he q1 q2
  have ea0 : e = G.1 ∨ zt hh e = 0 := he.imp id fun w => fr3.z w
  have ane : a ≠ e ∨ e = G.1 := he.elim Or.inr fun w => Or.inl fun q => by rw [← q, t3] at w; exact absurd w (by decide)
  have t6 : zt h6 a = 14 := (q1 a ane).1.trans t3
  have i6 : ∀ f, zi h6 f a = if f = 708 then -1 else 0 := fun f => (q2 f a a12).1.trans (i3 f)
  have r6 : ∀ f, zr h6 f a = none := fun f => (q2 f a a12).2.trans (r3 f)
  refine ⟨by rw [t6]; decide, fun h7 e7 => ⟨by rw [e7, zt_pr, t6]; decide, fun h8 e8 => ⟨by rw [e8, zt_pi, e7, zt_pr, t6]; decide, fun h9 e9 => ?_⟩⟩⟩
  have I9 : ∀ f, zi h9 f a = if f = 701 then v2 else if f = 700 then v1 else if f = 708 then -1 else 0 := fun f => by
    rw [e9, zi_pi, e8, zi_pi, e7, zi_pr, i6]
    simp only [and_true]
  have R9 : ∀ f, zr h9 f a = if f = 713 then some a2 else none := fun f => by
    rw [e9, zr_pi, e8, zr_pi, e7, zr_pr, r6]
    simp only [and_true]
  have La9 : zL h9 a2 e [] := by
    obtain ⟨k1, k2, k3, k4, k5, k6, k7, k8⟩ := La
    refine ⟨by rw [e9, e8, e7]; exact k1, ?_, ?_, by rw [e9, e8, e7]; exact k4, by rw [e9, e8, e7]; exact k5, by rw [e9, e8, e7]; exact k6, fun i hi => absurd hi (Nat.not_lt_zero i), fun x hx => absurd hx (List.not_mem_nil)⟩
    · rw [e9, zi_pi, if_neg (fun w => a12 w.2.symm), e8, zi_pi, if_neg (fun w => a12 w.2.symm), e7]; exact k2
    · rw [e9, zr_pi, e8, zr_pi, e7, zr_pr, if_neg (fun w => a12 w.2.symm)]; exact k3
  refine hQ h9 a2 e ⟨by rw [e9, e8, e7]; exact zFr.pi z (zFr.pi z (zFr.pr z fr6)), by rw [e9, e8, e7]; exact t6, ⟨by rw [I9]; rfl, by rw [I9]; rfl, by rw [I9]; rfl, by rw [I9]; rfl, by rw [I9]; rfl, by rw [I9]; rfl, by rw [I9]; rfl, by rw [I9]; rfl⟩, ⟨by rw [R9]; rfl, by rw [R9]; rfl, by rw [R9]; rfl, by rw [R9]; rfl, by rw [R9]; rfl, by rw [R9]; rfl⟩, La9, z, z2', a12, ea0⟩
theorem sp_newPerson (R : rcAll G F h0 A E h σ cb b) (W : sRef σ) {Q : Int32 → ZH → Prop} {XE : String → Nat → ZH → Prop} {bc bs : Nat} {v : Int32} (hc : 5 ≤ bc) (hs : 100 ≤ bs)
    (hX : ∀ v', sNewPerson σ v = (v', σ) → v' < 0 → zXr XE h v')
    (hQ : ∀ r σ' A' E' h', sNewPerson σ v = (r, σ') → ¬ r < 0 → rcAll G F h0 A' E' h' σ' cb b → Q r h') : fc_X5_newPerson G b Q XE h bc bs v := by
  have hb4 : zt h b ∈ [4] := by rw [R.1.1]; decide
  have h40 := W.2.2.2.2.1 2
  have L2 := rc_ls R (j := 2) (Or.inl (by omega))
  have hlen : (rcCon A σ 2).length = sn σ 2 := by rw [rc_con2]; simp
  have e203 : zi h 203 b = sa σ 203 0 := R.1.2.1
  have bad : ¬ (¬ sa σ 203 0 < v ∧ ¬ v < -40000 ∧ sn σ 2 < 150) → fc_X5_newPerson_31 G b Q XE h bc bs v := fun hn => ⟨bc, bs, Nat.le_refl _, Nat.le_refl _, sp_no (by omega) (by omega) (hX (-1) (by unfold sNewPerson; rw [if_neg hn]) (by decide))⟩
  refine ⟨hb4, fun z => bad fun q => q.1 (e203 ▸ z), fun z1 => ⟨fun z => bad fun q => q.2.1 z, fun z2 => ⟨hb4, A 5 2, R.1.2.2.2.2.2.1, L2.1, zl_size L2 ⟨fun z => ?_, fun z => ?_⟩⟩⟩⟩
  · rw [hlen] at z
    exact absurd z (nI_ge (b := 150) (by omega) (by omega))
  rw [e203] at z1
  have base : sNewPerson σ v = (nI (sn σ 2), snu (spu σ (sn σ 2) (sPv (sn σ 2) v)) 2 (sn σ 2 + 1)) := by unfold sNewPerson; rw [if_pos ⟨z1, z2, by omega⟩]
  refine ⟨0, 0, Nat.zero_le _, Nat.zero_le _, sp_ok ⟨hb4, (by omega : 1 ≤ bc), (by omega : 14 ≤ bs), fun a5 h6 hz e6 => ?_⟩⟩
  have R6 : rcAll G F h0 A E h6 σ cb b := rc_fr R (e6 ▸ zFr.new hz)
  have L6 := rc_ls R6 (j := 2) (Or.inl (by omega))
  subst e6
  refine ⟨by rw [R6.1.1]; decide, A 5 2, R6.1.2.2.2.2.2.1, L6.1, zl_size L6 ⟨2, 4, (by omega : 2 ≤ bc - 1), (by omega : 4 ≤ bs - 14), ?_⟩⟩
  rw [hlen]
  refine sp_x16 hz R.2.2.1.2.2.1 (Nat.le_refl _) (Nat.le_refl _) fun h11 la ea pn => ?_
  obtain ⟨n1, n2, ⟨i700, i701, i702, i703, i708, i709, i711, i712⟩, ⟨r704, r705, r706, r707, r710, r713⟩, nLa, za, zla, na1, nea⟩ := pn
  have g1 : rcAg σ (spu σ (sn σ 2) (sPv (sn σ 2) v)) A (upA (upA A 0 (sn σ 2) a5) 5 (3 + 3 * sn σ 2) la) E (upE E (3 + 3 * sn σ 2) ea) := by
    refine ⟨fun k => rfl, fun k' i' hk => ?_, fun _ _ _ => rfl, fun p hp => ?_, fun k' i' hk => ?_, fun j' hj' => ?_⟩
    · unfold sLiveA rcRowLive at hk
      rw [sa_pu, if_neg (by omega)]
    · rw [sy_pu, if_neg (by omega)]
    · unfold sIdx rcRowLive rcLive at hk
      unfold upA
      rw [if_neg (by omega), if_neg (by omega)]
    · unfold rcLive at hj'
      rw [upE_ne (by omega)]
  have R1 : rcAll G F h0 _ _ h11 _ cb b := ((rc_ag g1 W R.toC).fr n1).all fun j hj => (g1.con W hj).symm
  have A0 : upA (upA A 0 (sn σ 2) a5) 5 (3 + 3 * sn σ 2) la 0 = upA A 0 (sn σ 2) a5 0 := upA_k (by decide)
  have A0p : upA (upA A 0 (sn σ 2) a5) 5 (3 + 3 * sn σ 2) la 0 (sn σ 2) = a5 := by rw [A0]; exact upA_at
  have A0i : ∀ x, x < sn σ 2 → upA (upA A 0 (sn σ 2) a5) 5 (3 + 3 * sn σ 2) la 0 x = A 0 x := fun x hx => by rw [A0]; exact upA_i (by omega)
  have A1 : upA (upA A 0 (sn σ 2) a5) 5 (3 + 3 * sn σ 2) la 1 = A 1 := (upA_k (by decide)).trans (upA_k (by decide))
  have A5l : ∀ x, rcLive σ x → upA (upA A 0 (sn σ 2) a5) 5 (3 + 3 * sn σ 2) la 5 x = A 5 x := fun x hx => g1.2.2.2.2.1 5 x (by unfold sIdx; exact Or.inr (Or.inr (Or.inr (Or.inr (Or.inr (Or.inr (Or.inl ⟨rfl, hx⟩)))))))
  have A5a : upA (upA A 0 (sn σ 2) a5) 5 (3 + 3 * sn σ 2) la 5 (3 + 3 * sn σ 2) = la := upA_at
  have Ea : upE E (3 + 3 * sn σ 2) ea (3 + 3 * sn σ 2) = ea := upE_eq rfl
  have El : ∀ x, rcLive σ x → upE E (3 + 3 * sn σ 2) ea x = E x := g1.2.2.2.2.2
  generalize hA' : upA (upA A 0 (sn σ 2) a5) 5 (3 + 3 * sn σ 2) la = A' at *
  generalize hE' : upE E (3 + 3 * sn σ 2) ea = E' at *
  have sg : ∀ c, 700 ≤ c → sa (spu σ (sn σ 2) (sPv (sn σ 2) v)) c (sn σ 2) = sPv (sn σ 2) v c := fun c h1 => by
    rw [sa_pu, if_pos ⟨h1, rfl⟩]
  have hP : rcPers A' h11 (spu σ (sn σ 2) (sPv (sn σ 2) v)) (sn σ 2) := by
    unfold rcPers
    rw [A0p, A5a, A1]
    refine ⟨n2, fun c hc' => ?_, fun c hc' => ?_, by rw [sg 710 (by omega)]; exact r710, r713⟩
    · rw [sg c (by simp [rcPi] at hc'; omega)]
      simp only [rcPi, List.mem_cons, List.not_mem_nil, or_false] at hc'
      rcases hc' with q | q | q | q | q | q | q | q <;> subst q
      · exact i700
      · exact i701
      · exact i702
      · exact i703
      · exact i708
      · exact i709
      · exact i711
      · exact i712
    · rw [sg c (by simp [rcPr] at hc'; omega)]
      simp only [rcPr, List.mem_cons, List.not_mem_nil, or_false] at hc'
      rcases hc' with q | q | q | q <;> subst q
      · exact r704
      · exact r705
      · exact r706
      · exact r707
  have y0 : sy (spu σ (sn σ 2) (sPv (sn σ 2) v)) (sn σ 2) = [] := if_pos rfl
  have conN : rcCon A' (spu σ (sn σ 2) (sPv (sn σ 2) v)) (3 + 3 * sn σ 2) = [] := by
    unfold rcCon
    rw [if_neg (by omega), if_neg (by omega), if_neg (by omega), if_pos (by omega), show (3 + 3 * sn σ 2 - 3) / 3 = sn σ 2 by omega, y0]; rfl
  have P := R.2.2.2.1
  have Ls := R.2.2.2.2.2.2.1
  have zG : zl h11 G.1 = 0 := by rw [(n1 G.1 (by rw [R.2.2.1.2.2.1.1]; decide)).2.1]; exact R.2.2.1.2.2.1.2
  have lvE : ∀ x, rcLive (spu σ (sn σ 2) (sPv (sn σ 2) v)) x → rcLive σ x := fun x hx => hx
  have R3 := rc_incP R1.toC (p := sn σ 2) rfl hP y0 (by rw [conN, A5a, Ea]; exact nLa)
    (fun x hx q => by rw [A0i x hx, A0p] at q; have := (P x hx).1; rw [q, za] at this; exact absurd this (by decide))
    (by rw [A0p]; exact rc_nz R za)
    (fun y hy q => by rw [A5l y (lvE y hy), A5a] at q; exact (Ls y (lvE y hy)).ne.1 (q ▸ zla))
    (by rw [A5a]; exact rc_nz R zla)
    (fun y hy => by
      rw [El y (lvE y hy), Ea]
      rcases nea with q | q
      · right; rw [q]; exact zG
      · exact Or.inl fun z => (Ls y (lvE y hy)).ne.2.1 (z ▸ q))
    (by
      rw [Ea]
      rcases nea with q | q
      · right; rw [q]; exact zG
      · exact Or.inl (rc_nz R q))
  have l2' : rcLive (snu (spu σ (sn σ 2) (sPv (sn σ 2) v)) 2 (sn σ 2 + 1)) 2 := Or.inl (by omega)
  have L4 := R3.2.2.2.2.2.2.1 2 l2'
  have c1 : rcCon A' (spu σ (sn σ 2) (sPv (sn σ 2) v)) 2 = rcCon A σ 2 := by
    rw [rc_con2, rc_con2]
    exact List.map_congr_left fun x hx => A0i x (List.mem_range.mp hx)
  refine ⟨A' 5 2, ?_, L4.1, 1, 64, (by omega : 1 ≤ bc - 1 - 2), (by omega : 64 ≤ bs - 14 - 4), ?_⟩
  · rw [A5l 2 (Or.inl (by omega))]; exact R.1.2.2.2.2.2.1
  refine zl_add L4 (by rw [c1, hlen]; omega) (by rw [n2]; decide) (Nat.le_refl _) (Nat.le_refl _) fun e' h16 hL hA => ?_
  have R5 : rcAll G F h0 _ _ h16 _ cb b := (rc_LC R3 l2' hL hA).all fun x hx => by
    by_cases hx1 : x = 2
    · rw [upC_eq hx1, hx1, c1, rc_con2, rc_con2]
      show _ = (List.range (sn σ 2 + 1)).map _
      rw [List.range_succ, List.map_append, List.map_cons, List.map_nil, A0p]
      rw [List.map_congr_left (fun y hy => A0i y (List.mem_range.mp hy))]
    · rw [upC_ne hx1, rcCon_snu hx1 (by omega)]
  have L5 := rc_ls R5 l2'
  refine ⟨by rw [R5.1.1]; decide, _, R5.1.2.2.2.2.2.1, L5.1, zl_size L5 ?_⟩
  have e9 : (rcCon A' (snu (spu σ (sn σ 2) (sPv (sn σ 2) v)) 2 (sn σ 2 + 1)) 2).length = sn σ 2 + 1 := by rw [rc_con2]; simp [sn_nu]
  rw [e9, nI_pred]
  exact hQ _ _ _ _ _ base (nI_pos (by omega)) R5
end ZPE
