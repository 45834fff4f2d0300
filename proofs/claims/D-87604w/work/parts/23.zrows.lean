/-! METHODS of the component on the picture of a book: fields and rows. -/
set_option maxRecDepth 100000
/-- a refusal, thrown -/
abbrev zXr (XE : String → Nat → ZH → Prop) (h : ZH) (v : Int32) : Prop := ∀ a h', zt h' a = 6 → zi h' 400 a = v → zFr h h' → XE "ChurchyardBook$Refused" a h'
theorem zFr.new' {h h' : ZH} {a t : Nat} (hz : zt h a = 0) (r : zFr h h') : zFr h (znew h' a t) := by
  intro b hb
  have hne : b ≠ a := fun q => hb (q ▸ hz)
  obtain ⟨r1, r2, r3, r4⟩ := r b hb
  exact ⟨by rw [zt_new, if_neg hne]; exact r1, r2, fun f => ⟨by rw [zi_new, if_neg hne]; exact (r3 f).1, by rw [zr_new, if_neg hne]; exact (r3 f).2⟩, r4⟩
theorem zFr.arr {h h' : ZH} {a k n : Nat} (hz : zt h a = 0) (r : zFr h h') : zFr h (zarr h' a k n) := by
  intro b hb
  have hne : b ≠ a := fun q => hb (q ▸ hz)
  obtain ⟨r1, r2, r3, r4⟩ := r b hb
  exact ⟨by rw [zt_arr, if_neg hne]; exact r1, by rw [zl_arr, if_neg hne]; exact r2, r3, fun k i => ⟨by rw [zj_arr, if_neg hne]; exact (r4 k i).1, by rw [zs_arr, if_neg hne]; exact (r4 k i).2⟩⟩
theorem zFr.z {h h' : ZH} (r : zFr h h') {a : Nat} (hz : zt h' a = 0) : zt h a = 0 := by
  by_cases q : zt h a = 0
  · exact q
  · rw [(r a q).1] at hz; exact hz
section ZRO
variable {G : Nat × Nat × Nat} {F : Nat → Prop} {h0 h h' : ZH} {A A' : ZA} {E E' : Nat → Nat} {σ σ' : ZS} {cb b : Nat} {C : Nat → List Nat}
theorem rc_ls (R : rcAll G F h0 A E h σ cb b) {j : Nat} (hj : rcLive σ j) : zL h (A 5 j) (E j) (rcCon A σ j) := R.2.2.2.2.2.2.1 j hj
theorem rc_nz (R : rcAll G F h0 A E h σ cb b) {a : Nat} (hz : zt h a = 0) : ¬ F a := fun q => by
  obtain ⟨q1, q2, -⟩ := R.2.2.2.2.2.2.2.2.2 a q
  exact q1 (q2.symm.trans hz)
theorem sp_ref {XE : String → Nat → ZH → Prop} {bc bs : Nat} {v : Int32} (hc : 1 ≤ bc) (hs : 7 ≤ bs) (hX : zXr XE h v) : 1 ≤ bc ∧ (7 ≤ bs ∧ (∀ (a1 : Nat) (h2 : ZH), zt h a1 = 0 → h2 = znew h a1 6 → fc_X7_init G a1 (fun h3 => zt h3 a1 = 6 ∧ (XE "ChurchyardBook$Refused" a1 h3)) h2 v)) :=
  (sp_no (G := G) (Q := True) (h := h) hc hs hX).2 rfl
/-- the act 'field' -/
def sField (σ : ZS) (v : Int32) : Int32 × ZS := if ¬ v < 0 ∧ ¬ 2 < v ∧ sn σ 0 < 8 then (nI (sn σ 0), snu (sau (sau σ 500 (sn σ 0) v) 502 (sn σ 0) 0) 0 (sn σ 0 + 1)) else (-1, σ)
theorem sp_field (R : rcAll G F h0 A E h σ cb b) (W : sRef σ) {Q : Int32 → ZH → Prop} {XE : String → Nat → ZH → Prop} {bc bs : Nat} {v : Int32} (hc : 3 ≤ bc) (hs : 100 ≤ bs)
    (hX : ∀ v', sField σ v = (v', σ) → v' < 0 → zXr XE h v')
    (hQ : ∀ r σ' A' E' h', sField σ v = (r, σ') → ¬ r < 0 → rcAll G F h0 A' E' h' σ' cb b → Q r h') : fc_X5_field G b Q XE h bc bs v := by
  have hb4 : zt h b ∈ [4] := by rw [R.1.1]; decide
  have L0 := rc_ls R (j := 0) (Or.inl (by omega))
  have hlen : (rcCon A σ 0).length = sn σ 0 := by rw [rc_con0]; simp
  have h64 := rc_sz0 R
  have bad : ¬ (¬ v < 0 ∧ ¬ 2 < v ∧ sn σ 0 < 8) → fc_X5_field_25 G b Q XE h bc bs v := fun hn => ⟨bc, bs, Nat.le_refl _, Nat.le_refl _, sp_no (by omega) (by omega) (hX (-1) (by unfold sField; rw [if_neg hn]) (by decide))⟩
  refine ⟨fun w => bad (fun q => q.1 w), fun w => ⟨fun w2 => bad (fun q => q.2.1 w2), fun w2 => ⟨hb4, A 5 0, R.1.2.2.2.1, L0.1, zl_size L0 ⟨fun w3 => bad (fun q => ?_), fun w3 => ?_⟩⟩⟩⟩
  · rw [hlen] at w3
    exact nI_ge q.2.2 (by omega) w3
  rw [hlen] at w3
  have w8 : sn σ 0 < 8 := Classical.byContradiction fun q => w3 (nI_le (a := 8) (by omega) (by omega))
  have base : sField σ v = (nI (sn σ 0), snu (sau (sau σ 500 (sn σ 0) v) 502 (sn σ 0) 0) 0 (sn σ 0 + 1)) := by unfold sField; rw [if_pos ⟨w, w2, w8⟩]
  refine ⟨0, 0, Nat.zero_le _, Nat.zero_le _, sp_ok ⟨hb4, (by omega : 1 ≤ bc), (by omega : 3 ≤ bs), fun a5 h6 hz e6 => ⟨1, 12, (by omega : 1 ≤ bc - 1), (by omega : 12 ≤ bs - 3), by decide, by decide, Nat.le_refl _, by decide, fun a1 h2 hz1 e2 => ?_⟩⟩⟩
  have e2 : h2 = zarr h6 a1 7 12 := e2
  subst e6
  have h15 : ¬ a5 = a1 := fun q => by rw [← q, zt_new, if_pos rfl] at hz1; exact absurd hz1 (by decide)
  have hz1' : zt h a1 = 0 := by rw [zt_new, if_neg (fun q => h15 q.symm)] at hz1; exact hz1
  have t5 : zt h2 a5 = 7 := by rw [e2, zt_arr, if_neg h15, zt_new, if_pos rfl]
  refine ⟨by rw [t5]; decide, fun h3 e3 => ⟨by rw [e3, zt_pr, t5]; decide, fun h4 e4 => ?_⟩⟩
  have fr : zFr h h4 := by rw [e4, e3, e2]; exact zFr.pi hz (zFr.pr hz (zFr.arr hz1' (zFr.new hz)))
  have T5 : zt h4 a5 = 7 := by rw [e4, zt_pi, e3, zt_pr]; exact t5
  have g1 : rcAg σ (sau (sau σ 500 (sn σ 0) v) 502 (sn σ 0) 0) A (upA (upA A 2 (sn σ 0) a5) 7 (sn σ 0) a1) E E := by
    refine ⟨fun k => rfl, fun k i hk => ?_, fun _ _ _ => rfl, fun _ _ => rfl, fun k i hk => ?_, fun _ _ => rfl⟩
    · unfold sLiveA rcRowLive at hk
      rw [sa_au, if_neg (by omega), sa_au, if_neg (by omega)]
    · unfold sIdx rcRowLive at hk
      unfold upA
      rw [if_neg (by omega), if_neg (by omega)]
  have R1 := (rc_ag g1 W R.toC).fr fr
  have a27 : upA (upA A 2 (sn σ 0) a5) 7 (sn σ 0) a1 2 = upA A 2 (sn σ 0) a5 2 := upA_k (by decide)
  have a7 : upA (upA A 2 (sn σ 0) a5) 7 (sn σ 0) a1 7 (sn σ 0) = a1 := upA_at
  have a2 : upA (upA A 2 (sn σ 0) a5) 7 (sn σ 0) a1 2 (sn σ 0) = a5 := by rw [a27]; exact upA_at
  have a5e : upA (upA A 2 (sn σ 0) a5) 7 (sn σ 0) a1 5 = A 5 := (upA_k (by decide)).trans (upA_k (by decide))
  have a2i : ∀ i, i < sn σ 0 → upA (upA A 2 (sn σ 0) a5) 7 (sn σ 0) a1 2 i = A 2 i := fun i hi => by rw [a27]; exact upA_i (by omega)
  have a7i : ∀ i, i < sn σ 0 → upA (upA A 2 (sn σ 0) a5) 7 (sn σ 0) a1 7 i = A 7 i := fun i hi => (upA_i (by omega)).trans (congrFun (upA_k (by decide)) i)
  have hFd : rcField (upA (upA A 2 (sn σ 0) a5) 7 (sn σ 0) a1) h4 (sau (sau σ 500 (sn σ 0) v) 502 (sn σ 0) 0) cb (sn σ 0) := by
    unfold rcField
    rw [a2, a7]
    refine ⟨T5, by rw [e4, zi_pi, if_pos ⟨rfl, rfl⟩, sa_au, if_neg (fun w => absurd w.1 (by decide)), sa_au, if_pos ⟨rfl, rfl⟩], by rw [e4, zr_pi, e3, zr_pr, if_pos ⟨rfl, rfl⟩], ?_, ?_, ?_, 0, by omega, by rw [sa_au, if_pos ⟨rfl, rfl⟩]; rfl, fun i hi => absurd hi (Nat.not_lt_zero i)⟩
    · rw [e4, zi_pi, if_neg (fun q => absurd q.1 (by decide)), e3, zi_pr, e2, zi_arr, zi_new, if_pos rfl, sa_au, if_pos ⟨rfl, rfl⟩]
    · rw [e4, zt_pi, e3, zt_pr, e2, zt_arr, if_pos rfl]
    · rw [e4, zl_pi, e3, zl_pr, e2, zl_arr, if_pos rfl]
  have Fd := R.2.2.2.2.2.1
  have R2 := rc_incF R1 (f := sn σ 0) rfl hFd (by rw [sa_au, if_pos ⟨rfl, rfl⟩]) (fun i hi q => by rw [a2i i hi, a2] at q; rw [← q, (Fd i hi).1] at hz; exact absurd hz (by decide)) (by rw [a2]; exact rc_nz R hz) (fun i hi q => by rw [a7i i hi, a7] at q; rw [← q, (Fd i hi).2.2.2.2.1] at hz1'; exact absurd hz1' (by decide)) (by rw [a7]; exact rc_nz R hz1')
  have l0 : rcLive (snu (sau (sau σ 500 (sn σ 0) v) 502 (sn σ 0) 0) 0 (sn σ 0 + 1)) 0 := Or.inl (by omega)
  have L4 := R2.2.2.2.2.2.2.1 0 l0
  refine ⟨A 5 0, R.1.2.2.2.1, by rw [← a5e]; exact L4.1, 1, 64, (by omega : 1 ≤ bc - 1 - 1), (by omega : 64 ≤ bs - 3 - 12), ?_⟩
  rw [← a5e]
  refine zl_add L4 (by rw [hlen]; omega) (by rw [T5]; decide) (Nat.le_refl _) (Nat.le_refl _) fun e' h' hL hA => ?_
  have R3 : rcAll G F h0 _ _ h' _ cb b := (rc_LC R2 l0 hL hA).all fun j hj => by
    have c0 : rcCon (upA (upA A 2 (sn σ 0) a5) 7 (sn σ 0) a1) (snu (sau (sau σ 500 (sn σ 0) v) 502 (sn σ 0) 0) 0 (sn σ 0 + 1)) 0 = rcCon A σ 0 ++ [a5] := by
      rw [rc_con0, rc_con0]
      show (List.range (sn σ 0 + 1)).map _ = _
      rw [List.range_succ, List.map_append, List.map_cons, List.map_nil, a2]
      rw [List.map_congr_left (fun x hx => a2i x (List.mem_range.mp hx))]
    by_cases hj0 : j = 0
    · rw [upC_eq hj0, hj0, c0]
    · rw [upC_ne hj0]
      have := g1.con W (j := j) hj
      rw [← this]
      unfold rcCon
      rw [if_neg hj0, if_neg hj0]
      rfl
  have L3 := rc_ls R3 (j := 0) l0
  refine ⟨by rw [R3.1.1]; decide, A 5 0, by rw [← a5e]; exact R3.1.2.2.2.1, by rw [← a5e]; exact L3.1, ?_⟩
  rw [← a5e]
  refine zl_size L3 ?_
  have e9 : (rcCon (upA (upA A 2 (sn σ 0) a5) 7 (sn σ 0) a1) (snu (sau (sau σ 500 (sn σ 0) v) 502 (sn σ 0) 0) 0 (sn σ 0 + 1)) 0).length = sn σ 0 + 1 := by rw [rc_con0]; simp [sn_nu]
  rw [e9, nI_pred]
  exact hQ _ _ _ _ _ base (nI_pos (by omega)) R3
/-- the fault of a row that isn't there; 0: it is -/
def sRowF (σ : ZS) (f r : Int32) : Int32 := if (∃ i, i < sn σ 0 ∧ f = nI i) ∧ ¬ r < 0 ∧ r < sa σ 502 f.toNatClampNeg then (if sa σ 501 (12 * f.toNatClampNeg + r.toNatClampNeg) = 0 then 0 else -3) else -2
theorem sp_fget (R : rcAll G F h0 A E h σ cb b) {Q : Option Nat → Prop} {i : Nat} (hi : i < sn σ 0) (hQ : Q (some (A 2 i))) : fc_J2_get G (A 5 0) Q h (nI i) := by
  have L0 := rc_ls R (j := 0) (Or.inl (by omega))
  have hlen : (rcCon A σ 0).length = sn σ 0 := by rw [rc_con0]; simp
  refine zl_get L0 (by omega) ?_
  have e : (rcCon A σ 0)[i]? = some (A 2 i) := by rw [rc_con0]; simp [hi]
  rw [e]; exact hQ
theorem sp_row (R : rcAll G F h0 A E h σ cb b) {Q : Option Nat → Prop} {XE : String → Nat → ZH → Prop} {bc bs : Nat} {f r : Int32} (hc : 2 ≤ bc) (hs : 1007 ≤ bs)
    (hX : ∀ v, sRowF σ f r = v → v < 0 → zXr XE h v)
    (hQ : ∀ i j, i < sn σ 0 → j < 12 → f = nI i → r = nI j → rcRowLive σ (12 * i + j) → rcRow A h σ cb (12 * i + j) → sRowF σ f r = 0 → Q (some (A 3 (12 * i + j)))) : fc_X5_row G b Q XE h bc bs f r := by
  have hb4 : zt h b ∈ [4] := by rw [R.1.1]; decide
  have L0 := rc_ls R (j := 0) (Or.inl (by omega))
  have hlen : (rcCon A σ 0).length = sn σ 0 := by rw [rc_con0]; simp
  have h64 := rc_sz0 R
  have bad2 : ¬ ((∃ i, i < sn σ 0 ∧ f = nI i) ∧ ¬ r < 0 ∧ r < sa σ 502 f.toNatClampNeg) → zXr XE h (-2) := fun hn => hX (-2) (by unfold sRowF; rw [if_neg hn]) (by decide)
  have bad : ¬ ((∃ i, i < sn σ 0 ∧ f = nI i) ∧ ¬ r < 0 ∧ r < sa σ 502 f.toNatClampNeg) → fc_X5_row_19 G b Q XE h bc bs f r := fun hn => ⟨bc, bs, Nat.le_refl _, Nat.le_refl _, sp_no (by omega) (by omega) (bad2 hn)⟩
  refine ⟨fun w => bad fun q => ?_, fun w => ⟨hb4, A 5 0, R.1.2.2.2.1, L0.1, zl_size L0 ⟨fun w3 => bad fun q => ?_, fun w3 => ?_⟩⟩⟩
  · obtain ⟨⟨i, hi, e⟩, -⟩ := q
    exact nI_pos (by omega : i < 2 ^ 31) (e ▸ w)
  · obtain ⟨⟨i, hi, e⟩, -⟩ := q
    rw [hlen, e] at w3
    exact nI_ge hi (by omega) w3
  obtain ⟨i, hi31, e⟩ := nI_of w
  subst e
  rw [hlen] at w3
  have hi : i < sn σ 0 := Classical.byContradiction fun q => w3 (nI_le (by omega) (by omega))
  have hFd := R.2.2.2.2.2.1 i hi
  obtain ⟨f1, f2, f3, f4, f5, f6, m, f7, f8, f9⟩ := hFd
  have f17 : zt h (A 2 i) ∈ [7] := by rw [f1]; decide
  have hic : (nI i).toNatClampNeg = i := nI_clamp hi31
  have bad' : ¬ (¬ r < 0 ∧ r < sa σ 502 i) → fc_X5_row_53 G b Q XE h (bc - 0) (bs - 0) r (some (A 2 i)) := fun hn => ⟨bc, bs, Nat.le_refl _, Nat.le_refl _, sp_no (by omega) (by omega) (bad2 fun q => hn (by rw [hic] at q; exact q.2))⟩
  refine ⟨0, 0, Nat.zero_le _, Nat.zero_le _, sp_ok ⟨hb4, A 5 0, R.1.2.2.2.1, L0.1, sp_fget R hi ⟨fun b9 e9 => by cases e9; exact f17, fun v => bad' fun q => q.1 v, fun v => ⟨_, rfl, f17, fun v2 => bad' fun q => ?_, fun v2 => ?_⟩⟩⟩⟩
  · rw [f4] at v2
    exact absurd q.2 (Int32.not_lt.mpr v2)
  rw [f4, f8] at v2
  obtain ⟨j, hj31, e⟩ := nI_of v
  subst e
  have hjm : j < m := Classical.byContradiction fun q => v2 (nI_le (by omega) (by omega))
  have hjc : (nI j).toNatClampNeg = j := nI_clamp hj31
  have base : sRowF σ (nI i) (nI j) = if sa σ 501 (12 * i + j) = 0 then 0 else -3 := by
    unfold sRowF
    rw [if_pos ⟨⟨i, hi, rfl⟩, v, by rw [hic, f8]; exact nI_lt hjm (by omega)⟩, hic, hjc]
  have t27 : zt h (A 7 i) ∈ [27] := by rw [f5]; decide
  have hin : vp_in (nI j) (zl h (A 7 i)) := by rw [f6]; exact nI_in (by omega) (by omega)
  refine ⟨0, 0, Nat.zero_le _, Nat.zero_le _, sp_ok ⟨_, rfl, f17, A 7 i, f3, t27, hin, fun z => ?_, fun b7 z => ?_⟩⟩
  · rw [hjc] at z
    refine ⟨(by omega : 1 ≤ bc), (by omega : 1000 ≤ bs), fun q8 => sp_ref (by omega : 1 ≤ bc - 1) (by omega : 7 ≤ bs - 1000) (hX (-3) ?_ (by decide))⟩
    rw [base, if_neg]
    intro q
    rcases f9 j hjm with y | y
    · rw [y.1] at q; exact absurd q (by decide)
    · rw [y.2.1] at z; cases z
  · rw [hjc] at z
    rcases f9 j hjm with y | y
    · rw [y.2] at z; cases z
    · rw [y.2.1] at z
      have z : b7 = A 3 (12 * i + j) := (Option.some.inj z).symm
      subst z
      have hr := y.2.2
      have h30 : zl h (A 3 (12 * i + j)) ≤ 30 := hr.2.2.1
      have tg : zt h (A 3 (12 * i + j)) ∈ [20, 21, 22, 23, 24, 25, 26, 27] := by
        rw [hr.1]
        repeat' split
        all_goals decide
      refine ⟨tg, fun y2 => absurd y2 (nI_pos (by omega)), fun _ => ⟨0, 0, Nat.zero_le _, Nat.zero_le _, sp_ok ⟨_, rfl, f17, A 7 i, f3, t27, hin, ?_⟩⟩⟩
      rw [hjc, y.2.1]
      refine hQ i j hi (by omega) rfl rfl ⟨by rw [show (12 * i + j) / 12 = i by omega]; exact hi, ?_, y.1⟩ hr (by rw [base, if_pos y.1])
      rw [show (12 * i + j) / 12 = i by omega, show (12 * i + j) % 12 = j by omega, f8, nI_clamp (by omega)]; exact hjm
/-- a new row's places -/
def szr (σ : ZS) (r : Nat) : ZS := (σ.1, (fun k i => if k = 8 ∧ i / 30 = r then 0 else σ.2.1 k i), σ.2.2)
theorem sa_zr (σ : ZS) (r k i : Nat) : sa (szr σ r) k i = if k = 8 ∧ i / 30 = r then 0 else sa σ k i := rfl
/-- the act 'row' -/
def sNewRow (σ : ZS) (f s n : Int32) : Int32 × ZS :=
  if ∃ i, i < sn σ 0 ∧ f = nI i then
    if ¬ s < 0 ∧ ¬ 3 < s ∧ ¬ 12 ≤ sa σ 502 f.toNatClampNeg ∧ ¬ 30 < n then
      if n < 0 then (-5, σ) else
        (sa σ 502 f.toNatClampNeg, sau (sau (sau (sau (szr σ (12 * f.toNatClampNeg + (sa σ 502 f.toNatClampNeg).toNatClampNeg)) 5 (12 * f.toNatClampNeg + (sa σ 502 f.toNatClampNeg).toNatClampNeg) s) 6 (12 * f.toNatClampNeg + (sa σ 502 f.toNatClampNeg).toNatClampNeg) n) 501 (12 * f.toNatClampNeg + (sa σ 502 f.toNatClampNeg).toNatClampNeg) 0) 502 f.toNatClampNeg (sa σ 502 f.toNatClampNeg + 1))
    else (-1, σ)
  else (-2, σ)
/-- what the machine makes for a row of a sort -/
def zRowK (s : Int32) : Nat := if s = 0 then 3 else if s = 1 then 4 else if s = 2 then 5 else 6
theorem sp_x1row {Q : Option Nat → ZH → Prop} {XE : String → Nat → ZH → Prop} {bc bs : Nat} {s n : Int32} (h0s : ¬ s < 0) (h3 : ¬ 3 < s) (h30 : ¬ 30 < n) (hc : 3 ≤ bc) (hs : 1010 ≤ bs)
    (hX : n < 0 → ∀ q, XE "java/lang/NegativeArraySizeException" q h) (hQ : ∀ a m, n = nI m → m ≤ 30 → zt h a = 0 → Q (some a) (zarr h a (zRowK s) m)) : fc_X1_newRow G Q XE h bc bs s n := by
  obtain ⟨j, hj, rfl⟩ := nI_of h0s
  have hj3 : j ≤ 3 := Classical.byContradiction fun q => h3 (nI_lt (a := 3) (by omega) (by omega))
  have go : ∀ k, k = zRowK (nI j) → ((n < 0 → 3 ≤ bc ∧ 1010 ≤ bs ∧ ∀ q3 : Nat, XE "java/lang/NegativeArraySizeException" q3 h) ∧ (¬ n < 0 → n.toNatClampNeg ≤ 30000 ∧ 1 ≤ bc ∧ n.toNatClampNeg ≤ bs ∧ ∀ (a1 : Nat) (h2 : ZH), zt h a1 = 0 → h2 = zarr h a1 k n.toNatClampNeg → Q (some a1) h2)) := by
    intro k hk
    refine ⟨fun w => ⟨hc, hs, hX w⟩, fun w => ?_⟩
    obtain ⟨m, hm, rfl⟩ := nI_of w
    have hm30 : m ≤ 30 := Classical.byContradiction fun q => h30 (nI_lt (a := 30) (by omega) (by omega))
    rw [nI_clamp hm, hk]
    exact ⟨by omega, by omega, by omega, fun a1 h2 hz e2 => by rw [e2]; exact hQ a1 m rfl hm30 hz⟩
  have ti : (nI j).toInt = (j : Int) := nI_toInt hj
  refine ⟨fun w => go 6 ?_, fun w => go 3 ?_, fun w => go 4 ?_, fun w => go 5 ?_⟩
  · have : j = 3 := by omega
    subst this; decide
  · have : j = 0 := by omega
    subst this; decide
  · have : j = 1 := by omega
    subst this; decide
  · have : j = 2 := by omega
    subst this; decide
theorem sp_newRow (R : rcAll G F h0 A E h σ cb b) (W : sRef σ) {Q : Int32 → ZH → Prop} {XE : String → Nat → ZH → Prop} {bc bs : Nat} {f s n : Int32} (hc : 4 ≤ bc) (hs : 1020 ≤ bs)
    (hX : ∀ v', sNewRow σ f s n = (v', σ) → v' < 0 → zXr XE h v')
    (hQ : ∀ r σ' A' E' h', sNewRow σ f s n = (r, σ') → ¬ r < 0 → rcAll G F h0 A' E' h' σ' cb b → Q r h') : fc_X5_newRow G b Q XE h bc bs f s n := by
  have hb4 : zt h b ∈ [4] := by rw [R.1.1]; decide
  have L0 := rc_ls R (j := 0) (Or.inl (by omega))
  have hlen : (rcCon A σ 0).length = sn σ 0 := by rw [rc_con0]; simp
  have h64 := rc_sz0 R
  have bad : ¬ (∃ i, i < sn σ 0 ∧ f = nI i) → fc_X5_newRow_19 G b Q XE h bc bs f s n := fun hn => ⟨bc, bs, Nat.le_refl _, Nat.le_refl _, sp_no (by omega) (by omega) (hX (-2) (by unfold sNewRow; rw [if_neg hn]) (by decide))⟩
  refine ⟨fun w => bad fun q => ?_, fun w => ⟨hb4, A 5 0, R.1.2.2.2.1, L0.1, zl_size L0 ⟨fun w3 => bad fun q => ?_, fun w3 => ?_⟩⟩⟩
  · obtain ⟨i, hi, e⟩ := q
    exact nI_pos (by omega : i < 2 ^ 31) (e ▸ w)
  · obtain ⟨i, hi, e⟩ := q
    rw [hlen, e] at w3
    exact nI_ge hi (by omega) w3
  obtain ⟨i, hi31, e⟩ := nI_of w
  subst e
  rw [hlen] at w3
  have hi : i < sn σ 0 := Classical.byContradiction fun q => w3 (nI_le (by omega) (by omega))
  have hFd := R.2.2.2.2.2.1 i hi
  obtain ⟨f1, f2, f3, f4, f5, f6, m, f7, f8, f9⟩ := hFd
  have f17 : zt h (A 2 i) ∈ [7] := by rw [f1]; decide
  have hic : (nI i).toNatClampNeg = i := nI_clamp hi31
  have hmc : (nI m).toNatClampNeg = m := nI_clamp (by omega)
  have base : sNewRow σ (nI i) s n = if ¬ s < 0 ∧ ¬ 3 < s ∧ ¬ 12 ≤ nI m ∧ ¬ 30 < n then
      if n < 0 then (-5, σ) else (nI m, sau (sau (sau (sau (szr σ (12 * i + m)) 5 (12 * i + m) s) 6 (12 * i + m) n) 501 (12 * i + m) 0) 502 i (nI m + 1))
      else (-1, σ) := by
    unfold sNewRow
    rw [if_pos ⟨i, hi, rfl⟩, hic, f8, hmc]
  have bad' : ¬ (¬ s < 0 ∧ ¬ 3 < s ∧ ¬ 12 ≤ nI m ∧ ¬ 30 < n) → fc_X5_newRow_67 G b Q XE h (bc - 0) (bs - 0) s n (some (A 2 i)) := fun hn => ⟨bc, bs, Nat.le_refl _, Nat.le_refl _, sp_no (by omega) (by omega) (hX (-1) (by rw [base, if_neg hn]) (by decide))⟩
  rw [← f8, ← f4] at bad'
  refine ⟨0, 0, Nat.zero_le _, Nat.zero_le _, sp_ok ⟨hb4, A 5 0, R.1.2.2.2.1, L0.1, sp_fget R hi ⟨fun b9 e9 => by cases e9; exact f17, fun v => bad' fun q => q.1 v, fun v => ⟨fun v2 => bad' fun q => q.2.1 v2, fun v2 => ⟨_, rfl, f17, fun v3 => bad' fun q => q.2.2.1 v3, fun v3 => ⟨fun v4 => bad' fun q => q.2.2.2 v4, fun v4 => ?_⟩⟩⟩⟩⟩⟩
  rw [f4, f8] at v3
  have hm12 : m < 12 := Classical.byContradiction fun q => v3 (nI_le (a := 12) (by omega) (by omega))
  rw [if_pos ⟨v, v2, v3, v4⟩] at base
  refine ⟨0, 0, Nat.zero_le _, Nat.zero_le _, sp_ok ⟨_, rfl, f17, f17, 3, 1010, (by omega : 3 ≤ bc), (by omega : 1010 ≤ bs), sp_x1row v v2 v4 (Nat.le_refl _) (Nat.le_refl _) (fun hn q => ⟨rfl, ?_⟩) fun a k hk hk30 hz => ?_⟩⟩
  · exact sp_ref (by omega : 1 ≤ bc - 3) (by omega : 7 ≤ bs - 1010) (hX (-5) (by rw [base, if_pos hn]) (by decide))
  · subst hk
    rw [if_neg (nI_pos (by omega))] at base
    have K3 : zRowK s = 3 ∨ zRowK s = 4 ∨ zRowK s = 5 ∨ zRowK s = 6 := by
      unfold zRowK
      split
      · exact Or.inl rfl
      split
      · exact Or.inr (Or.inl rfl)
      split
      · exact Or.inr (Or.inr (Or.inl rfl))
      · exact Or.inr (Or.inr (Or.inr rfl))
    have h7 : zt (zarr h a (zRowK s) k) (A 7 i) = 27 := by rw [zt_arr, if_neg (fun q => by rw [← q, f5] at hz; omega)]; exact f5
    have l7 : zl (zarr h a (zRowK s) k) (A 7 i) = 12 := by rw [zl_arr, if_neg (fun q => by rw [← q, f5] at hz; omega)]; exact f6
    have h2 : zt (zarr h a (zRowK s) k) (A 2 i) ∈ [7] := by rw [zt_arr, if_neg (fun q => by rw [← q, f1] at hz; omega)]; exact f17
    have ta : zt (zarr h a (zRowK s) k) a = 20 + zRowK s := by rw [zt_arr, if_pos rfl]
    refine ⟨A 7 i, f3, by rw [h7]; decide, by rw [l7, f4, f8]; exact nI_in hm12 (by omega), fun b9 e9 => ?_, fun h13 e13 => ⟨?_, ?_, fun h14 e14 => ⟨?_, ?_⟩⟩⟩
    · cases e9
      rw [h7, ta]
      rcases K3 with q | q | q | q <;> rw [q] <;> decide
    · rw [e13, zt_ps]; exact h2
    · rw [e13, zt_ps]; exact h2
    · rw [e14, zt_pi, e13, zt_ps]; exact h2
    · have g1 : rcAg σ (sau (sau (szr σ (12 * i + m)) 5 (12 * i + m) s) 6 (12 * i + m) (nI k)) A (upA A 3 (12 * i + m) a) E E := by
        have nl : ¬ rcRowLive σ (12 * i + m) := fun q => by
          have := q.2.1
          rw [show (12 * i + m) / 12 = i by omega, show (12 * i + m) % 12 = m by omega, f8, hmc] at this
          omega
        refine ⟨fun k => rfl, fun k' i' hk => ?_, fun _ _ _ => rfl, fun _ _ => rfl, fun k' i' hk => ?_, fun _ _ => rfl⟩
        · rw [sa_au, if_neg, sa_au, if_neg, sa_zr, if_neg]
          · rintro ⟨rfl, q2⟩
            unfold sLiveA at hk
            rcases hk with q | q | q | q | q | q | q | q | q | q
            all_goals first | omega | (rw [q2] at q; exact nl q.2)
          · rintro ⟨rfl, rfl⟩
            unfold sLiveA at hk
            rcases hk with q | q | q | q | q | q | q | q | q | q
            all_goals first | omega | exact nl q.2
          · rintro ⟨rfl, rfl⟩
            unfold sLiveA at hk
            rcases hk with q | q | q | q | q | q | q | q | q | q
            all_goals first | omega | exact nl q.2
        · unfold upA
          rw [if_neg]
          rintro ⟨rfl, rfl⟩
          unfold sIdx at hk
          rcases hk with q | q | q | q | q | q | q | q
          all_goals first | omega | exact nl q.2
      have R1 : rcAll G F h0 _ E (zarr h a (zRowK s) k) _ cb b := ((rc_ag g1 W R.toC).fr (zFr.arr hz zFr.rf)).all fun j hj => (g1.con W hj).symm
      have a7 : upA A 3 (12 * i + m) a 7 = A 7 := upA_k (by decide)
      have a2 : upA A 3 (12 * i + m) a 2 = A 2 := upA_k (by decide)
      have s5 : ∀ k', ¬ k' = 5 → ¬ k' = 6 → ¬ k' = 8 → ∀ x, sa (sau (sau (szr σ (12 * i + m)) 5 (12 * i + m) s) 6 (12 * i + m) (nI k)) k' x = sa σ k' x := fun k' h1 h2 h3 x => by rw [sa_au, if_neg (fun w => h2 w.1), sa_au, if_neg (fun w => h1 w.1), sa_zr, if_neg (fun w => h3 w.1)]
      have R2 := rc_F7 R1 (f := i) (n := m) (m := m + 1) (q := some a) (x := nI (m + 1)) (y := 0) hi hm12 (by omega) rfl (fun i' h1 h2 => by rw [s5 502 (by decide) (by decide) (by decide), f8, hmc]; omega)
        (fun _ => Or.inr ⟨rfl, by rw [upA_at], ?_⟩) (fun _ => ⟨fun i' hi' he => ?_, by rw [upA_at]; exact rc_nz R hz⟩)
      · rw [a7, a2] at R2
        have e14' : h14 = zpi (zps (zarr h a (zRowK s) k) 7 (A 7 i) m (some a)) 502 (A 2 i) (nI (m + 1)) := by
          rw [e14, e13]
          have c0 : (zi h 502 (A 2 i)).toNatClampNeg = m := by rw [f4, f8, hmc]
          have c1 : zi (zps (zarr h a (zRowK s) k) 7 (A 7 i) m (some a)) 502 (A 2 i) = nI m := by rw [zi_ps, zi_arr, f4, f8]
          rw [c0, c1, nI_1]
        have v14 : zi h14 502 (A 2 i) = nI (m + 1) := by rw [e14', zi_pi, if_pos ⟨rfl, rfl⟩]
        rw [v14, nI_pred]
        refine hQ _ _ (upA A 3 (12 * i + m) a) E h14 base (nI_pos (by omega)) ?_
        rw [e14', nI_1]
        exact R2
      · unfold rcRow
        rw [upA_at]
        refine ⟨?_, ?_, ?_, fun k' hk' => ?_⟩
        · have e5 : sa (sau (sau (szr σ (12 * i + m)) 5 (12 * i + m) s) 6 (12 * i + m) (nI k)) 5 (12 * i + m) = s := by rw [sa_au, if_neg (by omega), sa_au, if_pos ⟨rfl, rfl⟩]
          rw [ta, e5]
          unfold zRowK
          by_cases s0 : s = 0
          · rw [if_pos s0, if_pos s0]
          rw [if_neg s0, if_neg s0]
          by_cases s1 : s = 1
          · rw [if_pos s1, if_pos s1]
          rw [if_neg s1, if_neg s1]
          by_cases s2 : s = 2
          · rw [if_pos s2, if_pos s2]
          rw [if_neg s2, if_neg s2]
        · rw [zl_arr, if_pos rfl, sa_au, if_pos ⟨rfl, rfl⟩]
        · rw [zl_arr, if_pos rfl]; exact hk30
        · rw [zl_arr, if_pos rfl] at hk'
          rw [zs_arr, if_pos rfl, sa_au, if_neg (by omega), sa_au, if_neg (by omega), sa_zr, if_pos ⟨rfl, by omega⟩]
          rfl
      · rw [upA_at] at he
        by_cases hii : i' = 12 * i + m
        · exact hii
        · rw [upA_i hii] at he
          have hl' : rcRowLive σ i' := (g1.row i').mp hi'
          obtain ⟨u1, u2, u3⟩ := hl'
          obtain ⟨x1, x2, x3, x4, x5, x6, m', x7, x8, x9⟩ := R.2.2.2.2.2.1 (i' / 12) u1
          rw [x8, nI_clamp (by omega)] at u2
          have := x9 (i' % 12) u2
          rw [show 12 * (i' / 12) + i' % 12 = i' by omega] at this
          rcases this with y | y
          · rw [y.1] at u3; exact absurd u3 (by decide)
          · have := y.2.2.1
            rw [he, hz] at this
            repeat' split at this
            all_goals omega
end ZRO
