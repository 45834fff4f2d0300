/-! THE COMPONENT SIDE: the walks, printed by gen_comp.py -/
set_option maxRecDepth 100000
set_option maxHeartbeats 4000000 in
set_option maxRecDepth 100000 in
theorem wc_X13_plan {l : Launch} {D : va_G} {cA : Nat → ClassId} {P : Nat → Prop} {G : Nat × Nat × Nat} {o : Nat} {Q : Int32 → Prop} {h : ZH} {C S : Nat} {v1 : Int32} {v2 : Int32} {v3 : Int32} (hl9 : l.stackTraces = false) (hF : fc_X13_plan G o Q h v1 v2 v3) :
    zc_M l yX13_plan (ws_ yX13_plan cX13_plan 4 (some .int)) 2 D cA P G [.ref o, .int v1, .int v2, .int v3] h C S (fun v h' => ∃ z : Int32, v = some (.int z) ∧ Q z ∧ h = h') zc_no := by
  refine zc_ofF hl9 rfl (by decide +kernel) (Nat.le_of_ble_eq_true rfl) ?_
  intro p e s m args below meth c H locs ls X hN hT hH hl
  have hx := X.1
  have hb := X.2.1
  have hown := X.2.2.2.1
  have hts := X.2.2.2.2.1
  have hl : lv_has ls 4 [(0, .ref o), (1, .int v1), (2, .int v2), (3, .int v3)] := hl
  have hB : 0 + 0 ≤ C ∧ 0 + 0 ≤ S := ⟨by omega, by omega⟩
  have eh : h = h := rfl
  unfold fc_X13_plan at hF
  refine lv_aload_n hx hb dX13_plan_0 rfl (lv_at hl 0 rfl) ?_
  refine zc_call (c1 := 0) (s1 := 0) (rest := []) hH hB (Nat.zero_le _) (Nat.zero_le _) (fun hf => rv_columns_30 X hH q1587 hF ⟨Nat.le_of_ble_eq_true rfl, Nat.le_of_ble_eq_true rfl, Nat.le_of_ble_eq_true rfl⟩ hl.1 (st0 := [.ref o]) rfl (Nat.le_of_ble_eq_true rfl) dX13_plan_1 hf) (fun E9 ce9 q9 h9 H locs hx9 => False.elim hx9) (fun v9 h9 H locs hv9 hH hB => ?_)
  obtain ⟨z1, rfl, hF, rfl⟩ := hv9
  refine lv_aload_n hx hb dX13_plan_4 rfl (lv_at hl 0 rfl) ?_
  obtain ⟨hc, hF⟩ := hF
  refine zc_getf X hH hc 15 615 ("ChurchyardBook$Grave", "lying", "Ljava/util/ArrayList;", true) (by decide +kernel) (v := va_rf (zr h 615 o)) rfl q698 (Or.inr q699) dX13_plan_5 ?_
  obtain ⟨b2, eb2, hF⟩ := hF
  refine zq_st (st2 := [.ref b2, .int z1]) (by rw [eb2]; first | done | rfl) ?_
  obtain ⟨hc, hF⟩ := hF
  refine zc_call (c1 := 0) (s1 := 0) (rest := [.int z1]) hH hB (Nat.zero_le _) (Nat.zero_le _) (fun hf => zc_rV X hH hc (by decide) rfl (As := []) (wc_J2_size X.2.2.2.2.2.2.2.1 hF) (lw_V q1588 q350 q351 q94 q352) ⟨rfl, by decide, by decide, rfl⟩ ⟨Nat.le_of_ble_eq_true rfl, Nat.le_of_ble_eq_true rfl, Nat.le_of_ble_eq_true rfl⟩ rfl hl.1 (st0 := [.ref b2, .int z1]) rfl (Nat.le_of_ble_eq_true rfl) dX13_plan_8 hf) (fun E9 ce9 q9 h9 H locs hx9 => False.elim hx9) (fun v9 h9 H locs hv9 hH hB => ?_)
  obtain ⟨z3, rfl, hF, rfl⟩ := hv9
  refine lv_isub hx hb dX13_plan_11 ?_
  exact zc_iret X hH hB rfl rfl ⟨_, rfl, hF, eh⟩ dX13_plan_12
set_option maxHeartbeats 4000000 in
set_option maxRecDepth 100000 in
theorem wc_X14_plan {l : Launch} {D : va_G} {cA : Nat → ClassId} {P : Nat → Prop} {G : Nat × Nat × Nat} {o : Nat} {Q : Int32 → Prop} {h : ZH} {C S : Nat} {v1 : Int32} {v2 : Int32} {v3 : Int32} (hl9 : l.stackTraces = false) (hF : fc_X14_plan G o Q h v1 v2 v3) :
    zc_M l yX14_plan (ws_ yX14_plan cX14_plan 4 (some .int)) 2 D cA P G [.ref o, .int v1, .int v2, .int v3] h C S (fun v h' => ∃ z : Int32, v = some (.int z) ∧ Q z ∧ h = h') zc_no := by
  refine zc_ofF hl9 rfl (by decide +kernel) (Nat.le_of_ble_eq_true rfl) ?_
  intro p e s m args below meth c H locs ls X hN hT hH hl
  have hx := X.1
  have hb := X.2.1
  have hown := X.2.2.2.1
  have hts := X.2.2.2.2.1
  have hl : lv_has ls 4 [(0, .ref o), (1, .int v1), (2, .int v2), (3, .int v3)] := hl
  have hB : 0 + 0 ≤ C ∧ 0 + 0 ≤ S := ⟨by omega, by omega⟩
  have eh : h = h := rfl
  unfold fc_X14_plan at hF
  refine lv_bipush (v := 40) hx hb dX14_plan_0 (by decide) ?_
  refine lv_aload_n hx hb dX14_plan_2 rfl (lv_at hl 0 rfl) ?_
  obtain ⟨hc, hF⟩ := hF
  refine zc_getf X hH hc 15 615 ("ChurchyardBook$Grave", "lying", "Ljava/util/ArrayList;", true) (by decide +kernel) (v := va_rf (zr h 615 o)) rfl q696 (Or.inr q697) dX14_plan_3 ?_
  obtain ⟨b1, eb1, hF⟩ := hF
  refine zq_st (st2 := [.ref b1, .int 40]) (by rw [eb1]; first | done | rfl) ?_
  obtain ⟨hc, hF⟩ := hF
  refine zc_call (c1 := 0) (s1 := 0) (rest := [.int 40]) hH hB (Nat.zero_le _) (Nat.zero_le _) (fun hf => zc_rV X hH hc (by decide) rfl (As := []) (wc_J2_size X.2.2.2.2.2.2.2.1 hF) (lw_V q1237 q350 q351 q94 q352) ⟨rfl, by decide, by decide, rfl⟩ ⟨Nat.le_of_ble_eq_true rfl, Nat.le_of_ble_eq_true rfl, Nat.le_of_ble_eq_true rfl⟩ rfl hl.1 (st0 := [.ref b1, .int 40]) rfl (Nat.le_of_ble_eq_true rfl) dX14_plan_6 hf) (fun E9 ce9 q9 h9 H locs hx9 => False.elim hx9) (fun v9 h9 H locs hv9 hH hB => ?_)
  obtain ⟨z2, rfl, hF, rfl⟩ := hv9
  refine lv_isub hx hb dX14_plan_9 ?_
  exact zc_iret X hH hB rfl rfl ⟨_, rfl, hF, eh⟩ dX14_plan_10
set_option maxHeartbeats 1000000 in
theorem rv_plan_31 {p : Program} {l : Launch} {e : Env} {R : Room} {s : State} {m : MethodId} {args : Array Value} {below : List Frame} {meth : Method} {c : Code} {H : Heap} {locs : List Loc} {cells slots : Nat} {cc : ByteArray} {nL pc : Nat} {ret : Option FieldType} {own : String} {ls : Array Slot} {rest : List Value} {D : va_G} {cA : Nat → ClassId} {P : Nat → Prop} {G : Nat × Nat × Nat} {h : ZH} {C S a idx : Nat} {Q : Int32 → Prop} {v1 : Int32} {v2 : Int32} {v3 : Int32} (X : zc_Cx p l s m args meth c cc nL ret own D cA P G) (hH : zc_H D cA P h s H locs) (hlk : Cond.methodLink own idx ⟨"ChurchyardBook$Grave", "plan", "(III)I"⟩ ∈ lw_all) (hF : fv_plan_31 G a Q h v1 v2 v3) (hR : zc_rm R 7 11) (hsize : ls.size = nL) {st0 : List Value} (hst : st0 = ([.int v1, .int v2, .int v3] : List Value).reverse ++ .ref a :: rest) (hcat : (rest.map fun v => v.category).sum ≤ 8) (hdg : decode cc pc = .ok (.invokevirtual idx, 3)) (hf : cells + C ≤ R.cells ∧ slots + S ≤ R.slots) :
    vx_Run p l e R s m args below meth c H locs cells slots C S (F0 m pc ls st0) rest (zc_Q D cA P (fun v h' => ∃ z : Int32, v = some (.int z) ∧ Q z ∧ h = h') (Value.ref a :: [.int v1, .int v2, .int v3]).toArray) (zc_X D cA P zc_no) P := by
  unfold fv_plan_31 at hF
  have hR9 := hR
  obtain ⟨hc, hF⟩ := hF
  simp only [List.mem_cons, List.not_mem_nil, or_false] at hc
  rcases hc with hc | hc | hc | hc | hc | hc
  · have hF := hF.1 (by rw [hc]; decide)
    exact zc_rU X hH hc (by decide) rfl (owner := "ChurchyardBook$Grave") (x := ⟨"ChurchyardBook$Grave", "plan", "(III)I"⟩) (As := [.int v1, .int v2, .int v3]) (wc_X10_plan X.2.2.2.2.2.2.2.1 hF) (lw_meth q1536) (X.2.2.2.2.1 _ hlk) (X.2.2.2.2.1 _ q1533) (zc_declA X (by decide +kernel)) (X.2.2.2.2.1 _ q1583) q1535 q115 ⟨by decide, by decide, rfl⟩ (zc_rm_le hR9 (by decide) (by decide)) rfl hsize hst hcat hdg hf
  · have hF := hF.2.1 (by rw [hc]; decide)
    exact zc_rU X hH hc (by decide) rfl (owner := "ChurchyardBook$Grave") (x := ⟨"ChurchyardBook$Grave", "plan", "(III)I"⟩) (As := [.int v1, .int v2, .int v3]) (wc_X11_plan X.2.2.2.2.2.2.2.1 hF) (lw_meth q1561) (X.2.2.2.2.1 _ hlk) (X.2.2.2.2.1 _ q1533) (zc_declA X (by decide +kernel)) (X.2.2.2.2.1 _ q1559) q1560 q116 ⟨by decide, by decide, rfl⟩ (zc_rm_le hR9 (by decide) (by decide)) rfl hsize hst hcat hdg hf
  · have hF := hF.2.1 (by rw [hc]; decide)
    exact zc_rU X hH hc (by decide) rfl (owner := "ChurchyardBook$Grave") (x := ⟨"ChurchyardBook$Grave", "plan", "(III)I"⟩) (As := [.int v1, .int v2, .int v3]) (wc_X11_plan X.2.2.2.2.2.2.2.1 hF) (lw_meth q1561) (X.2.2.2.2.1 _ hlk) (X.2.2.2.2.1 _ q1533) (zc_declA X (by decide +kernel)) (X.2.2.2.2.1 _ q1579) q1560 q116 ⟨by decide, by decide, rfl⟩ (zc_rm_le hR9 (by decide) (by decide)) rfl hsize hst hcat hdg hf
  · have hF := hF.2.2.1 (by rw [hc]; decide)
    exact zc_rU X hH hc (by decide) rfl (owner := "ChurchyardBook$Grave") (x := ⟨"ChurchyardBook$Grave", "plan", "(III)I"⟩) (As := [.int v1, .int v2, .int v3]) (wc_X13_plan X.2.2.2.2.2.2.2.1 hF) (lw_meth q1586) (X.2.2.2.2.1 _ hlk) (X.2.2.2.2.1 _ q1533) (zc_declA X (by decide +kernel)) (X.2.2.2.2.1 _ q1584) q1585 q118 ⟨by decide, by decide, rfl⟩ (zc_rm_le hR9 (by decide) (by decide)) rfl hsize hst hcat hdg hf
  · have hF := hF.2.2.2 (by rw [hc]; decide)
    exact zc_rU X hH hc (by decide) rfl (owner := "ChurchyardBook$Grave") (x := ⟨"ChurchyardBook$Grave", "plan", "(III)I"⟩) (As := [.int v1, .int v2, .int v3]) (wc_X14_plan X.2.2.2.2.2.2.2.1 hF) (lw_meth q1582) (X.2.2.2.2.1 _ hlk) (X.2.2.2.2.1 _ q1533) (zc_declA X (by decide +kernel)) (X.2.2.2.2.1 _ q1580) q1581 q119 ⟨by decide, by decide, rfl⟩ (zc_rm_le hR9 (by decide) (by decide)) rfl hsize hst hcat hdg hf
  · have hF := hF.1 (by rw [hc]; decide)
    exact zc_rU X hH hc (by decide) rfl (owner := "ChurchyardBook$Grave") (x := ⟨"ChurchyardBook$Grave", "plan", "(III)I"⟩) (As := [.int v1, .int v2, .int v3]) (wc_X10_plan X.2.2.2.2.2.2.2.1 hF) (lw_meth q1536) (X.2.2.2.2.1 _ hlk) (X.2.2.2.2.1 _ q1533) (zc_declA X (by decide +kernel)) (X.2.2.2.2.1 _ q1534) q1535 q115 ⟨by decide, by decide, rfl⟩ (zc_rm_le hR9 (by decide) (by decide)) rfl hsize hst hcat hdg hf
set_option maxHeartbeats 4000000 in
set_option maxRecDepth 100000 in
theorem wc_X1_plan {l : Launch} {D : va_G} {cA : Nat → ClassId} {P : Nat → Prop} {G : Nat × Nat × Nat} {o : Nat} {Q : Int32 → Prop} {h : ZH} {C S : Nat} {v1 : Int32} {v2 : Int32} {v3 : Int32} (hl9 : l.stackTraces = false) (hF : fc_X1_plan G o Q h v1 v2 v3) :
    zc_M l yX1_plan (ws_ yX1_plan cX1_plan 5 (some .int)) 8 D cA P G [.ref o, .int v1, .int v2, .int v3] h C S (fun v h' => ∃ z : Int32, v = some (.int z) ∧ Q z ∧ h = h') zc_no := by
  refine zc_ofF hl9 rfl (by decide +kernel) (Nat.le_of_ble_eq_true rfl) ?_
  intro p e s m args below meth c H locs ls X hN hT hH hl
  have hx := X.1
  have hb := X.2.1
  have hown := X.2.2.2.1
  have hts := X.2.2.2.2.1
  have hl : lv_has ls 5 [(0, .ref o), (1, .int v1), (2, .int v2), (3, .int v3)] := hl
  have hB : 0 + 0 ≤ C ∧ 0 + 0 ≤ S := ⟨by omega, by omega⟩
  have eh : h = h := rfl
  unfold fc_X1_plan at hF
  refine lv_aload_n hx hb dX1_plan_0 rfl (lv_at hl 0 rfl) ?_
  obtain ⟨hc, hF⟩ := hF
  refine zc_getf X hH hc 2 102 ("ChurchyardBook", "book", "LChurchyardBook$Book;", false) (by decide +kernel) (v := va_rf (zr h 102 o)) rfl q216 (Or.inl rfl) dX1_plan_1 ?_
  refine lv_iload_n hx hb dX1_plan_4 rfl (lv_at hl 1 rfl) ?_
  obtain ⟨b1, eb1, hF⟩ := hF
  refine zq_st (st2 := [.int v1, .ref b1]) (by rw [eb1]; first | done | rfl) ?_
  obtain ⟨hc, hF⟩ := hF
  refine zc_call (c1 := 0) (s1 := 0) (rest := []) hH hB (Nat.zero_le _) (Nat.zero_le _) (fun hf => zc_rV X hH hc (by decide) rfl (As := [.int v1]) (wc_X5_grave X.2.2.2.2.2.2.2.1 hF) (lw_V q1530 q954 q955 q91 q956) ⟨rfl, by decide, by decide, rfl⟩ ⟨Nat.le_of_ble_eq_true rfl, Nat.le_of_ble_eq_true rfl, Nat.le_of_ble_eq_true rfl⟩ rfl hl.1 (st0 := [.int v1, .ref b1]) rfl (Nat.le_of_ble_eq_true rfl) dX1_plan_5 hf) (fun E9 ce9 q9 h9 H locs hx9 => False.elim hx9) (fun v9 h9 H locs hv9 hH hB => ?_)
  obtain ⟨r2, rfl, hF, rfl⟩ := hv9
  refine zq_astore (r := r2) (lv' := [(4, va_rf r2), (0, .ref o), (1, .int v1), (2, .int v2), (3, .int v3)]) hx hb rfl dX1_plan_8 hl (by decide) rfl (fun ls hl => ?_)
  refine zq_aload hx hb dX1_plan_10 (lv_at hl 0 rfl) ?_
  refine zq_ifnull (tgt := 43) hx hb dX1_plan_12 (by decide) (fun cd => ?_) (fun b3 eb3 => ?_)
  · have hF := hF.1 cd
    refine lv_iconst (v := (-1)) hx hb dX1_plan_43 (by decide) ?_
    exact zc_iret X hH hB rfl rfl ⟨_, rfl, hF, eh⟩ dX1_plan_44
  · have hF := hF.2 b3 eb3
    refine zq_aload hx hb dX1_plan_15 (lv_at hl 0 rfl) ?_
    refine zq_st (st2 := [.ref b3]) (by rw [eb3]; first | done | rfl) ?_
    obtain ⟨hc, hF⟩ := hF
    refine zc_getf X hH hc 6 606 ("ChurchyardBook$Grave", "state", "I", false) (by decide +kernel) (v := .int (zi h 606 b3)) rfl q673 (Or.inl rfl) dX1_plan_17 ?_
    refine lv_iconst (v := 4) hx hb dX1_plan_20 (by decide) ?_
    refine lv_icmp_eq (tgt := 43) hx hb dX1_plan_21 (by decide) (fun cd => ?_) (fun cd => ?_)
    · have hF := hF.1 cd
      refine lv_iconst (v := (-1)) hx hb dX1_plan_43 (by decide) ?_
      exact zc_iret X hH hB rfl rfl ⟨_, rfl, hF, eh⟩ dX1_plan_44
    · have hF := hF.2 cd
      refine lv_iload_n hx hb dX1_plan_24 rfl (lv_at hl 3 rfl) ?_
      refine lv_if_lt (tgt := 43) hx hb dX1_plan_25 (by decide) (fun cd => ?_) (fun cd => ?_)
      · have hF := hF.1 cd
        refine lv_iconst (v := (-1)) hx hb dX1_plan_43 (by decide) ?_
        exact zc_iret X hH hB rfl rfl ⟨_, rfl, hF, eh⟩ dX1_plan_44
      · have hF := hF.2 cd
        refine lv_iload_n hx hb dX1_plan_28 rfl (lv_at hl 3 rfl) ?_
        refine lv_iconst (v := 2) hx hb dX1_plan_29 (by decide) ?_
        refine lv_icmp_gt (tgt := 43) hx hb dX1_plan_30 (by decide) (fun cd => ?_) (fun cd => ?_)
        · have hF := hF.1 cd
          refine lv_iconst (v := (-1)) hx hb dX1_plan_43 (by decide) ?_
          exact zc_iret X hH hB rfl rfl ⟨_, rfl, hF, eh⟩ dX1_plan_44
        · have hF := hF.2 cd
          refine lv_iload_n hx hb dX1_plan_33 rfl (lv_at hl 4 rfl) ?_
          refine lv_if_lt (tgt := 43) hx hb dX1_plan_34 (by decide) (fun cd => ?_) (fun cd => ?_)
          · have hF := hF.1 cd
            refine lv_iconst (v := (-1)) hx hb dX1_plan_43 (by decide) ?_
            exact zc_iret X hH hB rfl rfl ⟨_, rfl, hF, eh⟩ dX1_plan_44
          · have hF := hF.2 cd
            refine lv_iload_n hx hb dX1_plan_37 rfl (lv_at hl 4 rfl) ?_
            refine lv_bipush (v := 100) hx hb dX1_plan_38 (by decide) ?_
            refine lv_icmp_le (tgt := 45) hx hb dX1_plan_40 (by decide) (fun cd => ?_) (fun cd => ?_)
            · have hF := hF.1 cd
              refine zq_aload hx hb dX1_plan_45 (lv_at hl 0 rfl) ?_
              refine lv_iload_n hx hb dX1_plan_47 rfl (lv_at hl 3 rfl) ?_
              refine zq_st (st2 := [.int v2, .ref b3]) (by rw [eb3]; first | done | rfl) ?_
              refine zc_call (c1 := 0) (s1 := 0) (rest := []) hH hB (Nat.zero_le _) (Nat.zero_le _) (fun hf => rv_takes_18 X hH (by decide +kernel) hF ⟨Nat.le_of_ble_eq_true rfl, Nat.le_of_ble_eq_true rfl, Nat.le_of_ble_eq_true rfl⟩ hl.1 (st0 := [.int v2, .ref b3]) rfl (Nat.le_of_ble_eq_true rfl) dX1_plan_48 hf) (fun E9 ce9 q9 h9 H locs hx9 => False.elim hx9) (fun v9 h9 H locs hv9 hH hB => ?_)
              obtain ⟨z4, rfl, hF, rfl⟩ := hv9
              refine lv_if_eq (tgt := 72) hx hb dX1_plan_51 (by decide) (fun cd => ?_) (fun cd => ?_)
              · have hF := hF.1 cd
                refine lv_iconst (v := 0) hx hb dX1_plan_72 (by decide) ?_
                exact zc_iret X hH hB rfl rfl ⟨_, rfl, hF, eh⟩ dX1_plan_73
              · have hF := hF.2 cd
                refine zq_aload hx hb dX1_plan_54 (lv_at hl 0 rfl) ?_
                refine zq_st (st2 := [.ref b3]) (by rw [eb3]; first | done | rfl) ?_
                obtain ⟨hc, hF⟩ := hF
                refine zc_getf X hH hc 6 606 ("ChurchyardBook$Grave", "state", "I", false) (by decide +kernel) (v := .int (zi h 606 b3)) rfl q673 (Or.inl rfl) dX1_plan_56 ?_
                refine lv_iconst (v := 3) hx hb dX1_plan_59 (by decide) ?_
                refine lv_icmp_eq (tgt := 72) hx hb dX1_plan_60 (by decide) (fun cd => ?_) (fun cd => ?_)
                · have hF := hF.1 cd
                  refine lv_iconst (v := 0) hx hb dX1_plan_72 (by decide) ?_
                  exact zc_iret X hH hB rfl rfl ⟨_, rfl, hF, eh⟩ dX1_plan_73
                · have hF := hF.2 cd
                  refine zq_aload hx hb dX1_plan_63 (lv_at hl 0 rfl) ?_
                  refine zq_st (st2 := [.ref b3]) (by rw [eb3]; first | done | rfl) ?_
                  obtain ⟨hc, hF⟩ := hF
                  refine zc_getf X hH hc 6 606 ("ChurchyardBook$Grave", "state", "I", false) (by decide +kernel) (v := .int (zi h 606 b3)) rfl q673 (Or.inl rfl) dX1_plan_65 ?_
                  refine lv_iconst (v := 2) hx hb dX1_plan_68 (by decide) ?_
                  refine lv_icmp_ne (tgt := 74) hx hb dX1_plan_69 (by decide) (fun cd => ?_) (fun cd => ?_)
                  · have hF := hF.1 cd
                    refine zq_aload hx hb dX1_plan_74 (lv_at hl 0 rfl) ?_
                    refine lv_aload_n hx hb dX1_plan_76 rfl (lv_at hl 1 rfl) ?_
                    obtain ⟨hc, hF⟩ := hF
                    refine zc_getf X hH hc 2 102 ("ChurchyardBook", "book", "LChurchyardBook$Book;", false) (by decide +kernel) (v := va_rf (zr h 102 o)) rfl q216 (Or.inl rfl) dX1_plan_77 ?_
                    refine zq_st (st2 := [.ref b1, va_rf r2]) (by rw [eb1]; first | done | rfl) ?_
                    obtain ⟨hc, hF⟩ := hF
                    refine zc_getf X hH hc 3 203 ("ChurchyardBook$Book", "today", "I", false) (by decide +kernel) (v := .int (zi h 203 b1)) rfl q195 (Or.inl rfl) dX1_plan_80 ?_
                    refine lv_aload_n hx hb dX1_plan_83 rfl (lv_at hl 1 rfl) ?_
                    obtain ⟨hc, hF⟩ := hF
                    refine zc_getf X hH hc 2 102 ("ChurchyardBook", "book", "LChurchyardBook$Book;", false) (by decide +kernel) (v := va_rf (zr h 102 o)) rfl q216 (Or.inl rfl) dX1_plan_84 ?_
                    refine zq_st (st2 := [.ref b1, .int (zi h 203 b1), va_rf r2]) (by rw [eb1]; first | done | rfl) ?_
                    obtain ⟨hc, hF⟩ := hF
                    refine zc_getf X hH hc 3 203 ("ChurchyardBook$Book", "today", "I", false) (by decide +kernel) (v := .int (zi h 203 b1)) rfl q195 (Or.inl rfl) dX1_plan_87 ?_
                    refine lv_sipush (v := 365) hx hb dX1_plan_90 (by decide) ?_
                    refine lv_iload_n hx hb dX1_plan_93 rfl (lv_at hl 4 rfl) ?_
                    refine lv_imul hx hb dX1_plan_94 ?_
                    refine lv_iadd hx hb dX1_plan_95 ?_
                    refine lv_sipush (v := 365) hx hb dX1_plan_96 (by decide) ?_
                    refine zq_aload hx hb dX1_plan_99 (lv_at hl 0 rfl) ?_
                    refine lv_iload_n hx hb dX1_plan_101 rfl (lv_at hl 3 rfl) ?_
                    refine zq_st (st2 := [.int v2, .ref b3, .int 365, .int ((zi h 203 b1) + (365 * v3)), .int (zi h 203 b1), va_rf r2]) (by rw [eb3]; first | done | rfl) ?_
                    refine zc_call (c1 := 0) (s1 := 0) (rest := [.int 365, .int ((zi h 203 b1) + (365 * v3)), .int (zi h 203 b1), va_rf r2]) hH hB (Nat.zero_le _) (Nat.zero_le _) (fun hf => rv_years_7 X hH (by decide +kernel) hF ⟨Nat.le_of_ble_eq_true rfl, Nat.le_of_ble_eq_true rfl, Nat.le_of_ble_eq_true rfl⟩ hl.1 (st0 := [.int v2, .ref b3, .int 365, .int ((zi h 203 b1) + (365 * v3)), .int (zi h 203 b1), va_rf r2]) rfl (by simp only [List.map_cons, List.map_nil, List.sum_cons, List.sum_nil, zc_k1]; exact Nat.le_of_ble_eq_true rfl) dX1_plan_102 hf) (fun E9 ce9 q9 h9 H locs hx9 => False.elim hx9) (fun v9 h9 H locs hv9 hH hB => ?_)
                    obtain ⟨z5, rfl, hF, rfl⟩ := hv9
                    refine lv_imul hx hb dX1_plan_105 ?_
                    refine zq_st (st2 := [.int (365 * z5), .int ((zi h 203 b1) + (365 * v3)), .int (zi h 203 b1), .ref b3]) (by rw [eb3]; first | done | rfl) ?_
                    refine zc_call (c1 := 0) (s1 := 0) (rest := []) hH hB (Nat.zero_le _) (Nat.zero_le _) (fun hf => rv_plan_31 X hH q1531 hF ⟨Nat.le_of_ble_eq_true rfl, Nat.le_of_ble_eq_true rfl, Nat.le_of_ble_eq_true rfl⟩ hl.1 (st0 := [.int (365 * z5), .int ((zi h 203 b1) + (365 * v3)), .int (zi h 203 b1), .ref b3]) rfl (Nat.le_of_ble_eq_true rfl) dX1_plan_106 hf) (fun E9 ce9 q9 h9 H locs hx9 => False.elim hx9) (fun v9 h9 H locs hv9 hH hB => ?_)
                    obtain ⟨z6, rfl, hF, rfl⟩ := hv9
                    exact zc_iret X hH hB rfl rfl ⟨_, rfl, hF, eh⟩ dX1_plan_109
                  · have hF := hF.2 cd
                    refine lv_iconst (v := 0) hx hb dX1_plan_72 (by decide) ?_
                    exact zc_iret X hH hB rfl rfl ⟨_, rfl, hF, eh⟩ dX1_plan_73
            · have hF := hF.2 cd
              refine lv_iconst (v := (-1)) hx hb dX1_plan_43 (by decide) ?_
              exact zc_iret X hH hB rfl rfl ⟨_, rfl, hF, eh⟩ dX1_plan_44
set_option maxHeartbeats 4000000 in
set_option maxRecDepth 100000 in
theorem wc_X5_isOf_38 {p : Program} {l : Launch} {e : Env} {s : State} {m : MethodId} {args : Array Value} {below : List Frame} {meth : Method} {c : Code} {D : va_G} {cA : Nat → ClassId} {P : Nat → Prop} {G : Nat × Nat × Nat} {C S : Nat} {o : Nat} {Q : Int32 → Prop} {h0 : ZH} (X : zc_Cx p l s m args meth c cX5_isOf 3 (some .boolean) "ChurchyardBook$Book" D cA P G) (hN : meth.name = "isOf") (hT : c.exceptionTable.toList = tableOf []) :
    ∀ (h : ZH), fc_X5_isOf_38 G o Q h → ∀ (H : Heap) (locs : List Loc) (ls : Array Slot) (cells slots : Nat), cells + 0 ≤ C ∧ slots + 0 ≤ S → h0 = h → lv_has ls 3 [(0, .ref o)] → zc_H D cA P h s H locs → W p l e (zc_Ro 1 C S) s m args below meth c H locs cells slots (vx_MQ below (zc_Q D cA P (fun v h' => ∃ z : Int32, v = some (.int z) ∧ Q z ∧ h0 = h')) (zc_X D cA P zc_no) args s C S P) (F0 m 38 ls []) := by
  have hx := X.1
  have hb := X.2.1
  have hown := X.2.2.2.1
  have hts := X.2.2.2.2.1
  intro h hF
  intro H locs ls cells slots hB eh hl hH
  unfold fc_X5_isOf_38 at hF
  refine lv_iconst (v := 1) hx hb dX5_isOf_38 (by decide) ?_
  refine lv_goto (tgt := 43) hx hb dX5_isOf_39 (by decide) ?_
  exact zc_iret X hH hB rfl rfl ⟨_, rfl, hF, eh⟩ dX5_isOf_43
set_option maxHeartbeats 4000000 in
set_option maxRecDepth 100000 in
theorem wc_X5_isOf {l : Launch} {D : va_G} {cA : Nat → ClassId} {P : Nat → Prop} {G : Nat × Nat × Nat} {o : Nat} {Q : Int32 → Prop} {h : ZH} {C S : Nat} {q1 : Option Nat} {q2 : Option Nat} (hl9 : l.stackTraces = false) (hF : fc_X5_isOf G o Q h q1 q2) :
    zc_M l yX5_isOf (ws_ yX5_isOf cX5_isOf 3 (some .boolean)) 1 D cA P G [.ref o, va_rf q1, va_rf q2] h C S (fun v h' => ∃ z : Int32, v = some (.int z) ∧ Q z ∧ h = h') zc_no := by
  refine zc_ofF hl9 rfl (by decide +kernel) (zc_slle (by simp [zc_k1, zc_kI, zc_kR]) (Nat.le_of_ble_eq_true rfl)) ?_
  intro p e s m args below meth c H locs ls X hN hT hH hl
  have hx := X.1
  have hb := X.2.1
  have hown := X.2.2.2.1
  have hts := X.2.2.2.2.1
  have hl : lv_has ls 3 [(0, .ref o), (1, va_rf q1), (2, va_rf q2)] := by
    have h9 := hl
    rw [zc_ags _ (by simp [zc_k1, zc_kI, zc_kR]) 0] at h9
    exact h9
  have hB : 0 + 0 ≤ C ∧ 0 + 0 ≤ S := ⟨by omega, by omega⟩
  have eh : h = h := rfl
  unfold fc_X5_isOf at hF
  refine zq_aload_n hx hb dX5_isOf_0 rfl (lv_at hl 1 rfl) ?_
  obtain ⟨hA, hF⟩ := hF
  refine zc_inst X hH (r := q1) [25] [23, 24, 26] "[LChurchyardBook$Wall;" hA (by decide) (by decide +kernel) (by decide +kernel) (by decide) q1606 dX5_isOf_1 ?_
  refine lv_if_eq (tgt := 12) hx hb dX5_isOf_4 (by decide) (fun cd => ?_) (fun cd => ?_)
  · have hF := hF.1 cd
    refine zq_aload_n hx hb dX5_isOf_12 rfl (lv_at hl 1 rfl) ?_
    obtain ⟨hA, hF⟩ := hF
    refine zc_inst X hH (r := q1) [26] [23, 24, 25] "[LChurchyardBook$Deep;" hA (by decide) (by decide +kernel) (by decide +kernel) (by decide) q1608 dX5_isOf_13 ?_
    refine lv_if_eq (tgt := 24) hx hb dX5_isOf_16 (by decide) (fun cd => ?_) (fun cd => ?_)
    · have hF := hF.1 cd
      refine zq_aload_n hx hb dX5_isOf_24 rfl (lv_at hl 1 rfl) ?_
      obtain ⟨hA, hF⟩ := hF
      refine zc_inst X hH (r := q1) [24, 25, 26] [23] "[LChurchyardBook$Grave;" hA (by decide) (by decide +kernel) (by decide +kernel) (by decide) q1610 dX5_isOf_25 ?_
      refine lv_if_eq (tgt := 38) hx hb dX5_isOf_28 (by decide) (fun cd => ?_) (fun cd => ?_)
      · have hF := hF.1 cd
        exact wc_X5_isOf_38 X hN hT h hF _ _ _ _ _ hB eh (lv_sub hl [0] rfl) hH
      · have hF := hF.2 cd
        refine zq_aload_n hx hb dX5_isOf_31 rfl (lv_at hl 2 rfl) ?_
        obtain ⟨hA, hF⟩ := hF
        refine zc_inst X hH (r := q2) [8, 9, 10, 11, 12, 13] [2, 3] "ChurchyardBook$Grave" hA (by decide) (by decide +kernel) (by decide +kernel) (by decide) q531 dX5_isOf_32 ?_
        refine lv_if_eq (tgt := 42) hx hb dX5_isOf_35 (by decide) (fun cd => ?_) (fun cd => ?_)
        · have hF := hF.1 cd
          refine lv_iconst (v := 0) hx hb dX5_isOf_42 (by decide) ?_
          exact zc_iret X hH hB rfl rfl ⟨_, rfl, hF, eh⟩ dX5_isOf_43
        · have hF := hF.2 cd
          exact wc_X5_isOf_38 X hN hT h hF _ _ _ _ _ hB eh (lv_sub hl [0] rfl) hH
    · have hF := hF.2 cd
      refine zq_aload_n hx hb dX5_isOf_19 rfl (lv_at hl 2 rfl) ?_
      obtain ⟨hA, hF⟩ := hF
      refine zc_inst X hH (r := q2) [9, 10] [2, 3, 8, 11, 12, 13] "ChurchyardBook$Deep" hA (by decide) (by decide +kernel) (by decide +kernel) (by decide) q1609 dX5_isOf_20 ?_
      obtain ⟨hZ, hF⟩ := hF
      exact zc_iret X hH hB rfl (by rcases hZ with h9 | h9 <;> rw [h9] <;> rfl) ⟨_, rfl, hF, eh⟩ dX5_isOf_23
  · have hF := hF.2 cd
    refine zq_aload_n hx hb dX5_isOf_7 rfl (lv_at hl 2 rfl) ?_
    obtain ⟨hA, hF⟩ := hF
    refine zc_inst X hH (r := q2) [11, 12] [2, 3, 8, 9, 10, 13] "ChurchyardBook$Wall" hA (by decide) (by decide +kernel) (by decide +kernel) (by decide) q1607 dX5_isOf_8 ?_
    obtain ⟨hZ, hF⟩ := hF
    exact zc_iret X hH hB rfl (by rcases hZ with h9 | h9 <;> rw [h9] <;> rfl) ⟨_, rfl, hF, eh⟩ dX5_isOf_11
set_option maxHeartbeats 4000000 in
set_option maxRecDepth 100000 in
theorem wc_X5_isFree_88 {p : Program} {l : Launch} {e : Env} {s : State} {m : MethodId} {args : Array Value} {below : List Frame} {meth : Method} {c : Code} {D : va_G} {cA : Nat → ClassId} {P : Nat → Prop} {G : Nat × Nat × Nat} {C S : Nat} {o : Nat} {Q : Int32 → Prop} {K62 : ZH → Option Nat → Int32 → Int32 → Int32 → Int32 → Prop} {h0 : ZH} (X : zc_Cx p l s m args meth c cX5_isFree 8 (some .boolean) "ChurchyardBook$Book" D cA P G) (hN : meth.name = "isFree") (hT : c.exceptionTable.toList = tableOf []) (hK62 : ∀ (h : ZH) (q1 : Option Nat) (v2 : Int32) (v4 : Int32) (v6 : Int32) (v7 : Int32), K62 h q1 v2 v4 v6 v7 → ∀ (H : Heap) (locs : List Loc) (ls : Array Slot) (cells slots : Nat), cells + 0 ≤ C ∧ slots + 0 ≤ S → h0 = h → lv_has ls 8 [(0, .ref o), (1, va_rf q1), (2, .int v2), (4, .int v4), (6, .int v6), (7, .int v7)] → zc_H D cA P h s H locs → W p l e (zc_Ro 2 C S) s m args below meth c H locs cells slots (vx_MQ below (zc_Q D cA P (fun v h' => ∃ z : Int32, v = some (.int z) ∧ Q z ∧ h0 = h')) (zc_X D cA P zc_no) args s C S P) (F0 m 62 ls [])) :
    ∀ (h : ZH) (q1 : Option Nat) (v2 : Int32) (v4 : Int32) (v7 : Int32) (t0 : Int32), fc_X5_isFree_88 G o Q K62 h q1 v2 v4 v7 t0 → ∀ (H : Heap) (locs : List Loc) (ls : Array Slot) (cells slots : Nat), cells + 0 ≤ C ∧ slots + 0 ≤ S → h0 = h → lv_has ls 8 [(0, .ref o), (1, va_rf q1), (2, .int v2), (4, .int v4), (7, .int v7)] → zc_H D cA P h s H locs → W p l e (zc_Ro 2 C S) s m args below meth c H locs cells slots (vx_MQ below (zc_Q D cA P (fun v h' => ∃ z : Int32, v = some (.int z) ∧ Q z ∧ h0 = h')) (zc_X D cA P zc_no) args s C S P) (F0 m 88 ls [.int t0]) := by
  have hx := X.1
  have hb := X.2.1
  have hown := X.2.2.2.1
  have hts := X.2.2.2.2.1
  intro h q1 v2 v4 v7 t0 hF
  intro H locs ls cells slots hB eh hl hH
  unfold fc_X5_isFree_88 at hF
  refine lv_istore (lv' := [(6, .int t0), (0, .ref o), (1, va_rf q1), (2, .int v2), (4, .int v4), (7, .int v7)]) hx hb dX5_isFree_88 hl (by decide) rfl (fun ls hl => ?_)
  obtain ⟨x1, ex1⟩ : ∃ z : Int32, z = v7 + 1 := ⟨_, rfl⟩
  have hF := hF x1 ex1
  refine lv_iinc (v := x1) (lv' := [(7, .int x1), (6, .int t0), (0, .ref o), (1, va_rf q1), (2, .int v2), (4, .int v4)]) hx hb dX5_isFree_90 hl (k := 5) rfl (by rw [ex1]; rfl) (by decide) rfl (fun ls hl => ?_)
  refine lv_goto (tgt := 62) hx hb dX5_isFree_93 (by decide) ?_
  exact hK62 h q1 v2 v4 t0 x1 hF _ _ _ _ _ hB eh (lv_sub hl [2, 3, 4, 5, 1, 0] rfl) hH
set_option maxHeartbeats 4000000 in
set_option maxRecDepth 100000 in
theorem wc_X5_isFree_62 {p : Program} {l : Launch} {e : Env} {s : State} {m : MethodId} {args : Array Value} {below : List Frame} {meth : Method} {c : Code} {D : va_G} {cA : Nat → ClassId} {P : Nat → Prop} {G : Nat × Nat × Nat} {C S : Nat} {o : Nat} {Q : Int32 → Prop} {h0 : ZH} (X : zc_Cx p l s m args meth c cX5_isFree 8 (some .boolean) "ChurchyardBook$Book" D cA P G) (hN : meth.name = "isFree") (hT : c.exceptionTable.toList = tableOf []) :
    ∀ (n : Nat) (h : ZH) (q1 : Option Nat) (v2 : Int32) (v4 : Int32) (v6 : Int32) (v7 : Int32), fc_X5_isFree_62 G o Q n h q1 v2 v4 v6 v7 → ∀ (H : Heap) (locs : List Loc) (ls : Array Slot) (cells slots : Nat), cells + 0 ≤ C ∧ slots + 0 ≤ S → h0 = h → lv_has ls 8 [(0, .ref o), (1, va_rf q1), (2, .int v2), (4, .int v4), (6, .int v6), (7, .int v7)] → zc_H D cA P h s H locs → W p l e (zc_Ro 2 C S) s m args below meth c H locs cells slots (vx_MQ below (zc_Q D cA P (fun v h' => ∃ z : Int32, v = some (.int z) ∧ Q z ∧ h0 = h')) (zc_X D cA P zc_no) args s C S P) (F0 m 62 ls []) := by
  have hx := X.1
  have hb := X.2.1
  have hown := X.2.2.2.1
  have hts := X.2.2.2.2.1
  intro n
  induction n with
  | zero =>
    intro h q1 v2 v4 v6 v7 hF
    exact False.elim hF
  | succ n ih =>
    intro h q1 v2 v4 v6 v7 hF
    intro H locs ls cells slots hB eh hl hH
    unfold fc_X5_isFree_62 at hF
    refine lv_iload hx hb dX5_isFree_62 (lv_at hl 5 rfl) ?_
    refine lv_iload_n hx hb dX5_isFree_64 rfl (lv_at hl 2 rfl) ?_
    refine lv_iload hx hb dX5_isFree_65 (lv_at hl 3 rfl) ?_
    refine lv_iadd hx hb dX5_isFree_67 ?_
    refine lv_icmp_ge (tgt := 96) hx hb dX5_isFree_68 (by decide) (fun cd => ?_) (fun cd => ?_)
    · have hF := hF.1 cd
      refine lv_iload hx hb dX5_isFree_96 (lv_at hl 4 rfl) ?_
      obtain ⟨hZ, hF⟩ := hF
      exact zc_iret X hH hB rfl (by rcases hZ with h9 | h9 <;> rw [h9] <;> rfl) ⟨_, rfl, hF, eh⟩ dX5_isFree_98
    · have hF := hF.2 cd
      refine lv_iload hx hb dX5_isFree_71 (lv_at hl 4 rfl) ?_
      refine lv_if_eq (tgt := 96) hx hb dX5_isFree_73 (by decide) (fun cd => ?_) (fun cd => ?_)
      · have hF := hF.1 cd
        refine lv_iload hx hb dX5_isFree_96 (lv_at hl 4 rfl) ?_
        obtain ⟨hZ, hF⟩ := hF
        exact zc_iret X hH hB rfl (by rcases hZ with h9 | h9 <;> rw [h9] <;> rfl) ⟨_, rfl, hF, eh⟩ dX5_isFree_98
      · have hF := hF.2 cd
        refine zq_aload_n hx hb dX5_isFree_76 rfl (lv_at hl 1 rfl) ?_
        refine lv_iload hx hb dX5_isFree_77 (lv_at hl 5 rfl) ?_
        obtain ⟨b1, eb1, hF⟩ := hF
        refine zq_st (st2 := [.int v7, .ref b1]) (by rw [eb1]; first | done | rfl) ?_
        obtain ⟨hc, hF⟩ := hF
        obtain ⟨hI, hF⟩ := hF
        refine zc_aald X hH [23, 24, 25, 26] 3 hc (by decide) hI dX5_isFree_79 ?_
        refine zq_ifnonnull (tgt := 87) hx hb dX5_isFree_80 (by decide) (fun b2 eb2 => ?_) (fun cd => ?_)
        · have hF := hF.2 b2 eb2
          refine lv_iconst (v := 0) hx hb dX5_isFree_87 (by decide) ?_
          exact wc_X5_isFree_88 X hN hT ih h q1 v2 v4 v7 0 hF _ _ _ _ _ hB eh (lv_sub hl [0, 1, 2, 3, 5] rfl) hH
        · have hF := hF.1 cd
          refine lv_iconst (v := 1) hx hb dX5_isFree_83 (by decide) ?_
          refine lv_goto (tgt := 88) hx hb dX5_isFree_84 (by decide) ?_
          exact wc_X5_isFree_88 X hN hT ih h q1 v2 v4 v7 1 hF _ _ _ _ _ hB eh (lv_sub hl [0, 1, 2, 3, 5] rfl) hH
set_option maxHeartbeats 4000000 in
set_option maxRecDepth 100000 in
theorem wc_X5_isFree_57 {p : Program} {l : Launch} {e : Env} {s : State} {m : MethodId} {args : Array Value} {below : List Frame} {meth : Method} {c : Code} {D : va_G} {cA : Nat → ClassId} {P : Nat → Prop} {G : Nat × Nat × Nat} {C S : Nat} {o : Nat} {Q : Int32 → Prop} {h0 : ZH} (X : zc_Cx p l s m args meth c cX5_isFree 8 (some .boolean) "ChurchyardBook$Book" D cA P G) (hN : meth.name = "isFree") (hT : c.exceptionTable.toList = tableOf []) :
    ∀ (h : ZH) (q1 : Option Nat) (v2 : Int32) (v4 : Int32) (t0 : Int32), fc_X5_isFree_57 G o Q h q1 v2 v4 t0 → ∀ (H : Heap) (locs : List Loc) (ls : Array Slot) (cells slots : Nat), cells + 0 ≤ C ∧ slots + 0 ≤ S → h0 = h → lv_has ls 8 [(0, .ref o), (1, va_rf q1), (2, .int v2), (4, .int v4)] → zc_H D cA P h s H locs → W p l e (zc_Ro 2 C S) s m args below meth c H locs cells slots (vx_MQ below (zc_Q D cA P (fun v h' => ∃ z : Int32, v = some (.int z) ∧ Q z ∧ h0 = h')) (zc_X D cA P zc_no) args s C S P) (F0 m 57 ls [.int t0]) := by
  have hx := X.1
  have hb := X.2.1
  have hown := X.2.2.2.1
  have hts := X.2.2.2.2.1
  intro h q1 v2 v4 t0 hF
  intro H locs ls cells slots hB eh hl hH
  unfold fc_X5_isFree_57 at hF
  refine lv_istore (lv' := [(6, .int t0), (0, .ref o), (1, va_rf q1), (2, .int v2), (4, .int v4)]) hx hb dX5_isFree_57 hl (by decide) rfl (fun ls hl => ?_)
  refine lv_iload_n hx hb dX5_isFree_59 rfl (lv_at hl 3 rfl) ?_
  refine lv_istore (lv' := [(7, .int v2), (6, .int t0), (0, .ref o), (1, va_rf q1), (2, .int v2), (4, .int v4)]) hx hb dX5_isFree_60 hl (by decide) rfl (fun ls hl => ?_)
  obtain ⟨n9, hF⟩ := hF
  exact wc_X5_isFree_62 X hN hT n9 h q1 v2 v4 t0 v2 hF _ _ _ _ _ hB eh (lv_sub hl [2, 3, 4, 5, 1, 0] rfl) hH
set_option maxHeartbeats 4000000 in
set_option maxRecDepth 100000 in
theorem wc_X5_isFree_56 {p : Program} {l : Launch} {e : Env} {s : State} {m : MethodId} {args : Array Value} {below : List Frame} {meth : Method} {c : Code} {D : va_G} {cA : Nat → ClassId} {P : Nat → Prop} {G : Nat × Nat × Nat} {C S : Nat} {o : Nat} {Q : Int32 → Prop} {h0 : ZH} (X : zc_Cx p l s m args meth c cX5_isFree 8 (some .boolean) "ChurchyardBook$Book" D cA P G) (hN : meth.name = "isFree") (hT : c.exceptionTable.toList = tableOf []) :
    ∀ (h : ZH) (q1 : Option Nat) (v2 : Int32) (v4 : Int32), fc_X5_isFree_56 G o Q h q1 v2 v4 → ∀ (H : Heap) (locs : List Loc) (ls : Array Slot) (cells slots : Nat), cells + 0 ≤ C ∧ slots + 0 ≤ S → h0 = h → lv_has ls 8 [(0, .ref o), (1, va_rf q1), (2, .int v2), (4, .int v4)] → zc_H D cA P h s H locs → W p l e (zc_Ro 2 C S) s m args below meth c H locs cells slots (vx_MQ below (zc_Q D cA P (fun v h' => ∃ z : Int32, v = some (.int z) ∧ Q z ∧ h0 = h')) (zc_X D cA P zc_no) args s C S P) (F0 m 56 ls []) := by
  have hx := X.1
  have hb := X.2.1
  have hown := X.2.2.2.1
  have hts := X.2.2.2.2.1
  intro h q1 v2 v4 hF
  intro H locs ls cells slots hB eh hl hH
  unfold fc_X5_isFree_56 at hF
  refine lv_iconst (v := 0) hx hb dX5_isFree_56 (by decide) ?_
  exact wc_X5_isFree_57 X hN hT h q1 v2 v4 0 hF _ _ _ _ _ hB eh (lv_sub hl [0, 1, 2, 3] rfl) hH
set_option maxHeartbeats 4000000 in
set_option maxRecDepth 100000 in
theorem wc_X5_isFree_52 {p : Program} {l : Launch} {e : Env} {s : State} {m : MethodId} {args : Array Value} {below : List Frame} {meth : Method} {c : Code} {D : va_G} {cA : Nat → ClassId} {P : Nat → Prop} {G : Nat × Nat × Nat} {C S : Nat} {o : Nat} {Q : Int32 → Prop} {h0 : ZH} (X : zc_Cx p l s m args meth c cX5_isFree 8 (some .boolean) "ChurchyardBook$Book" D cA P G) (hN : meth.name = "isFree") (hT : c.exceptionTable.toList = tableOf []) :
    ∀ (h : ZH) (q1 : Option Nat) (v2 : Int32) (v4 : Int32), fc_X5_isFree_52 G o Q h q1 v2 v4 → ∀ (H : Heap) (locs : List Loc) (ls : Array Slot) (cells slots : Nat), cells + 0 ≤ C ∧ slots + 0 ≤ S → h0 = h → lv_has ls 8 [(0, .ref o), (1, va_rf q1), (2, .int v2), (4, .int v4)] → zc_H D cA P h s H locs → W p l e (zc_Ro 2 C S) s m args below meth c H locs cells slots (vx_MQ below (zc_Q D cA P (fun v h' => ∃ z : Int32, v = some (.int z) ∧ Q z ∧ h0 = h')) (zc_X D cA P zc_no) args s C S P) (F0 m 52 ls []) := by
  have hx := X.1
  have hb := X.2.1
  have hown := X.2.2.2.1
  have hts := X.2.2.2.2.1
  intro h q1 v2 v4 hF
  intro H locs ls cells slots hB eh hl hH
  unfold fc_X5_isFree_52 at hF
  refine lv_iconst (v := 1) hx hb dX5_isFree_52 (by decide) ?_
  refine lv_goto (tgt := 57) hx hb dX5_isFree_53 (by decide) ?_
  exact wc_X5_isFree_57 X hN hT h q1 v2 v4 1 hF _ _ _ _ _ hB eh (lv_sub hl [0, 1, 2, 3] rfl) hH
set_option maxHeartbeats 4000000 in
set_option maxRecDepth 100000 in
theorem wc_X5_isFree {l : Launch} {D : va_G} {cA : Nat → ClassId} {P : Nat → Prop} {G : Nat × Nat × Nat} {o : Nat} {Q : Int32 → Prop} {h : ZH} {C S : Nat} {q1 : Option Nat} {v2 : Int32} {v3 : Int32} {v4 : Int32} {q5 : Option Nat} (hl9 : l.stackTraces = false) (hF : fc_X5_isFree G o Q h q1 v2 v3 v4 q5) :
    zc_M l yX5_isFree (ws_ yX5_isFree cX5_isFree 8 (some .boolean)) 2 D cA P G [.ref o, va_rf q1, .int v2, .int v3, .int v4, va_rf q5] h C S (fun v h' => ∃ z : Int32, v = some (.int z) ∧ Q z ∧ h = h') zc_no := by
  refine zc_ofF hl9 rfl (by decide +kernel) (zc_slle (by simp [zc_k1, zc_kI, zc_kR]) (Nat.le_of_ble_eq_true rfl)) ?_
  intro p e s m args below meth c H locs ls X hN hT hH hl
  have hx := X.1
  have hb := X.2.1
  have hown := X.2.2.2.1
  have hts := X.2.2.2.2.1
  have hl : lv_has ls 8 [(0, .ref o), (1, va_rf q1), (2, .int v2), (3, .int v3), (4, .int v4), (5, va_rf q5)] := by
    have h9 := hl
    rw [zc_ags _ (by simp [zc_k1, zc_kI, zc_kR]) 0] at h9
    exact h9
  have hB : 0 + 0 ≤ C ∧ 0 + 0 ≤ S := ⟨by omega, by omega⟩
  have eh : h = h := rfl
  unfold fc_X5_isFree at hF
  refine lv_iload_n hx hb dX5_isFree_0 rfl (lv_at hl 2 rfl) ?_
  refine lv_iload hx hb dX5_isFree_1 (lv_at hl 4 rfl) ?_
  refine lv_iadd hx hb dX5_isFree_3 ?_
  refine zq_aload_n hx hb dX5_isFree_4 rfl (lv_at hl 1 rfl) ?_
  obtain ⟨b1, eb1, hF⟩ := hF
  refine zq_st (st2 := [.ref b1, .int (v2 + v4)]) (by rw [eb1]; first | done | rfl) ?_
  obtain ⟨hc, hF⟩ := hF
  refine zc_alen X hH hc dX5_isFree_5 ?_
  refine lv_icmp_gt (tgt := 56) hx hb dX5_isFree_6 (by decide) (fun cd => ?_) (fun cd => ?_)
  · have hF := hF.1 cd
    exact wc_X5_isFree_56 X hN hT h q1 v2 v4 hF _ _ _ _ _ hB eh (lv_sub hl [0, 1, 2, 4] rfl) hH
  · have hF := hF.2 cd
    refine lv_aload_n hx hb dX5_isFree_9 rfl (lv_at hl 0 rfl) ?_
    refine zq_aload_n hx hb dX5_isFree_10 rfl (lv_at hl 1 rfl) ?_
    refine zq_aload hx hb dX5_isFree_11 (lv_at hl 5 rfl) ?_
    obtain ⟨hc, hF⟩ := hF
    refine zc_call (c1 := 0) (s1 := 0) (rest := []) hH hB (Nat.zero_le _) (Nat.zero_le _) (fun hf => zc_rV X hH hc (by decide) rfl (As := [va_rf q1, va_rf q5]) (wc_X5_isOf X.2.2.2.2.2.2.2.1 hF) (lw_V q1602 q1604 qs25 q91 q1605) ⟨rfl, by decide, by decide, rfl⟩ ⟨Nat.le_of_ble_eq_true rfl, Nat.le_of_ble_eq_true rfl, Nat.le_of_ble_eq_true rfl⟩ rfl hl.1 (st0 := [va_rf q5, va_rf q1, .ref o]) rfl (Nat.le_of_ble_eq_true rfl) dX5_isFree_13 hf) (fun E9 ce9 q9 h9 H locs hx9 => False.elim hx9) (fun v9 h9 H locs hv9 hH hB => ?_)
    obtain ⟨z2, rfl, hF, rfl⟩ := hv9
    refine lv_if_eq (tgt := 56) hx hb dX5_isFree_16 (by decide) (fun cd => ?_) (fun cd => ?_)
    · have hF := hF.1 cd
      exact wc_X5_isFree_56 X hN hT h q1 v2 v4 hF _ _ _ _ _ hB eh (lv_sub hl [0, 1, 2, 4] rfl) hH
    · have hF := hF.2 cd
      refine lv_iload_n hx hb dX5_isFree_19 rfl (lv_at hl 3 rfl) ?_
      refine lv_iconst (v := 4) hx hb dX5_isFree_20 (by decide) ?_
      refine lv_icmp_eq (tgt := 52) hx hb dX5_isFree_21 (by decide) (fun cd => ?_) (fun cd => ?_)
      · have hF := hF.1 cd
        exact wc_X5_isFree_52 X hN hT h q1 v2 v4 hF _ _ _ _ _ hB eh (lv_sub hl [0, 1, 2, 4] rfl) hH
      · have hF := hF.2 cd
        refine lv_iload_n hx hb dX5_isFree_24 rfl (lv_at hl 3 rfl) ?_
        refine lv_iconst (v := 5) hx hb dX5_isFree_25 (by decide) ?_
        refine lv_icmp_eq (tgt := 52) hx hb dX5_isFree_26 (by decide) (fun cd => ?_) (fun cd => ?_)
        · have hF := hF.1 cd
          exact wc_X5_isFree_52 X hN hT h q1 v2 v4 hF _ _ _ _ _ hB eh (lv_sub hl [0, 1, 2, 4] rfl) hH
        · have hF := hF.2 cd
          refine lv_aload_n hx hb dX5_isFree_29 rfl (lv_at hl 0 rfl) ?_
          refine zq_aload_n hx hb dX5_isFree_30 rfl (lv_at hl 1 rfl) ?_
          refine lv_iload_n hx hb dX5_isFree_31 rfl (lv_at hl 2 rfl) ?_
          refine lv_iconst (v := 1) hx hb dX5_isFree_32 (by decide) ?_
          refine lv_isub hx hb dX5_isFree_33 ?_
          obtain ⟨hc, hF⟩ := hF
          refine zc_call (c1 := 0) (s1 := 0) (rest := []) hH hB (Nat.zero_le _) (Nat.zero_le _) (fun hf => zc_rV X hH hc (by decide) rfl (As := [va_rf q1, .int (v2 - 1)]) (wc_X5_isTree X.2.2.2.2.2.2.2.1 hF) (lw_V q635 q637 qs9 q91 q638) ⟨rfl, by decide, by decide, rfl⟩ ⟨Nat.le_of_ble_eq_true rfl, Nat.le_of_ble_eq_true rfl, Nat.le_of_ble_eq_true rfl⟩ rfl hl.1 (st0 := [.int (v2 - 1), va_rf q1, .ref o]) rfl (Nat.le_of_ble_eq_true rfl) dX5_isFree_34 hf) (fun E9 ce9 q9 h9 H locs hx9 => False.elim hx9) (fun v9 h9 H locs hv9 hH hB => ?_)
          obtain ⟨z3, rfl, hF, rfl⟩ := hv9
          refine lv_if_ne (tgt := 56) hx hb dX5_isFree_37 (by decide) (fun cd => ?_) (fun cd => ?_)
          · have hF := hF.1 cd
            exact wc_X5_isFree_56 X hN hT h q1 v2 v4 hF _ _ _ _ _ hB eh (lv_sub hl [0, 1, 2, 4] rfl) hH
          · have hF := hF.2 cd
            refine lv_aload_n hx hb dX5_isFree_40 rfl (lv_at hl 0 rfl) ?_
            refine zq_aload_n hx hb dX5_isFree_41 rfl (lv_at hl 1 rfl) ?_
            refine lv_iload_n hx hb dX5_isFree_42 rfl (lv_at hl 2 rfl) ?_
            refine lv_iload hx hb dX5_isFree_43 (lv_at hl 4 rfl) ?_
            refine lv_iadd hx hb dX5_isFree_45 ?_
            obtain ⟨hc, hF⟩ := hF
            refine zc_call (c1 := 0) (s1 := 0) (rest := []) hH hB (Nat.zero_le _) (Nat.zero_le _) (fun hf => zc_rV X hH hc (by decide) rfl (As := [va_rf q1, .int (v2 + v4)]) (wc_X5_isTree X.2.2.2.2.2.2.2.1 hF) (lw_V q635 q637 qs9 q91 q638) ⟨rfl, by decide, by decide, rfl⟩ ⟨Nat.le_of_ble_eq_true rfl, Nat.le_of_ble_eq_true rfl, Nat.le_of_ble_eq_true rfl⟩ rfl hl.1 (st0 := [.int (v2 + v4), va_rf q1, .ref o]) rfl (Nat.le_of_ble_eq_true rfl) dX5_isFree_46 hf) (fun E9 ce9 q9 h9 H locs hx9 => False.elim hx9) (fun v9 h9 H locs hv9 hH hB => ?_)
            obtain ⟨z4, rfl, hF, rfl⟩ := hv9
            refine lv_if_ne (tgt := 56) hx hb dX5_isFree_49 (by decide) (fun cd => ?_) (fun cd => ?_)
            · have hF := hF.1 cd
              exact wc_X5_isFree_56 X hN hT h q1 v2 v4 hF _ _ _ _ _ hB eh (lv_sub hl [0, 1, 2, 4] rfl) hH
            · have hF := hF.2 cd
              exact wc_X5_isFree_52 X hN hT h q1 v2 v4 hF _ _ _ _ _ hB eh (lv_sub hl [0, 1, 2, 4] rfl) hH
set_option maxHeartbeats 4000000 in
set_option maxRecDepth 100000 in
theorem wc_X1_free_165 {p : Program} {l : Launch} {e : Env} {s : State} {m : MethodId} {args : Array Value} {below : List Frame} {meth : Method} {c : Code} {D : va_G} {cA : Nat → ClassId} {P : Nat → Prop} {G : Nat × Nat × Nat} {C S : Nat} {o : Nat} {Q : Int32 → ZH → Prop} {K43 : ZH → Nat → Nat → Int32 → Int32 → Option Nat → Int32 → Int32 → Prop} {K78 : ZH → Nat → Nat → Int32 → Int32 → Option Nat → Int32 → Int32 → Option Nat → Int32 → Prop} (X : zc_Cx p l s m args meth c cX1_free 11 (some .int) "ChurchyardBook" D cA P G) (hN : meth.name = "free") (hT : c.exceptionTable.toList = tableOf []) (hK43 : ∀ (h : ZH) (bc bs : Nat) (v1 : Int32) (v2 : Int32) (q4 : Option Nat) (v5 : Int32) (v6 : Int32), K43 h bc bs v1 v2 q4 v5 v6 → ∀ (H : Heap) (locs : List Loc) (ls : Array Slot) (cells slots : Nat), cells + bc ≤ C ∧ slots + bs ≤ S → lv_has ls 11 [(0, .ref o), (1, .int v1), (2, .int v2), (4, va_rf q4), (5, .int v5), (6, .int v6)] → zc_H D cA P h s H locs → W p l e (zc_Ro 9 C S) s m args below meth c H locs cells slots (vx_MQ below (zc_Q D cA P (fun v h' => ∃ z : Int32, v = some (.int z) ∧ Q z h')) (zc_X D cA P zc_no) args s C S P) (F0 m 43 ls [])) (hK78 : ∀ (h : ZH) (bc bs : Nat) (v1 : Int32) (v2 : Int32) (q4 : Option Nat) (v5 : Int32) (v6 : Int32) (q7 : Option Nat) (v8 : Int32), K78 h bc bs v1 v2 q4 v5 v6 q7 v8 → ∀ (H : Heap) (locs : List Loc) (ls : Array Slot) (cells slots : Nat), cells + bc ≤ C ∧ slots + bs ≤ S → lv_has ls 11 [(0, .ref o), (1, .int v1), (2, .int v2), (4, va_rf q4), (5, .int v5), (6, .int v6), (7, va_rf q7), (8, .int v8)] → zc_H D cA P h s H locs → W p l e (zc_Ro 9 C S) s m args below meth c H locs cells slots (vx_MQ below (zc_Q D cA P (fun v h' => ∃ z : Int32, v = some (.int z) ∧ Q z h')) (zc_X D cA P zc_no) args s C S P) (F0 m 78 ls [])) :
    ∀ (h : ZH) (bc bs : Nat) (v1 : Int32) (v2 : Int32) (q4 : Option Nat) (v5 : Int32) (v6 : Int32) (q7 : Option Nat) (v8 : Int32), fc_X1_free_165 G o Q K43 K78 h bc bs v1 v2 q4 v5 v6 q7 v8 → ∀ (H : Heap) (locs : List Loc) (ls : Array Slot) (cells slots : Nat), cells + bc ≤ C ∧ slots + bs ≤ S → lv_has ls 11 [(0, .ref o), (1, .int v1), (2, .int v2), (4, va_rf q4), (5, .int v5), (6, .int v6), (7, va_rf q7), (8, .int v8)] → zc_H D cA P h s H locs → W p l e (zc_Ro 9 C S) s m args below meth c H locs cells slots (vx_MQ below (zc_Q D cA P (fun v h' => ∃ z : Int32, v = some (.int z) ∧ Q z h')) (zc_X D cA P zc_no) args s C S P) (F0 m 165 ls []) := by
  have hx := X.1
  have hb := X.2.1
  have hown := X.2.2.2.1
  have hts := X.2.2.2.2.1
  intro h bc bs v1 v2 q4 v5 v6 q7 v8 hF
  intro H locs ls cells slots hB hl hH
  unfold fc_X1_free_165 at hF
  obtain ⟨x1, ex1⟩ : ∃ z : Int32, z = v8 + 1 := ⟨_, rfl⟩
  have hF := hF x1 ex1
  refine lv_iinc (v := x1) (lv' := [(8, .int x1), (0, .ref o), (1, .int v1), (2, .int v2), (4, va_rf q4), (5, .int v5), (6, .int v6), (7, va_rf q7)]) hx hb dX1_free_165 hl (k := 7) rfl (by rw [ex1]; rfl) (by decide) (by cases q7 <;> rfl) (fun ls hl => ?_)
  refine lv_goto (tgt := 78) hx hb dX1_free_168 (by decide) ?_
  exact hK78 h bc bs v1 v2 q4 v5 v6 q7 x1 hF _ _ _ _ _ hB (lv_sub hl [1, 2, 3, 4, 5, 6, 7, 0] rfl) hH
set_option maxHeartbeats 4000000 in
set_option maxRecDepth 100000 in
theorem wc_X1_free_159 {p : Program} {l : Launch} {e : Env} {s : State} {m : MethodId} {args : Array Value} {below : List Frame} {meth : Method} {c : Code} {D : va_G} {cA : Nat → ClassId} {P : Nat → Prop} {G : Nat × Nat × Nat} {C S : Nat} {o : Nat} {Q : Int32 → ZH → Prop} {K43 : ZH → Nat → Nat → Int32 → Int32 → Option Nat → Int32 → Int32 → Prop} {K78 : ZH → Nat → Nat → Int32 → Int32 → Option Nat → Int32 → Int32 → Option Nat → Int32 → Prop} {K101 : ZH → Nat → Nat → Int32 → Int32 → Option Nat → Int32 → Int32 → Option Nat → Int32 → Option Nat → Int32 → Prop} (X : zc_Cx p l s m args meth c cX1_free 11 (some .int) "ChurchyardBook" D cA P G) (hN : meth.name = "free") (hT : c.exceptionTable.toList = tableOf []) (hK43 : ∀ (h : ZH) (bc bs : Nat) (v1 : Int32) (v2 : Int32) (q4 : Option Nat) (v5 : Int32) (v6 : Int32), K43 h bc bs v1 v2 q4 v5 v6 → ∀ (H : Heap) (locs : List Loc) (ls : Array Slot) (cells slots : Nat), cells + bc ≤ C ∧ slots + bs ≤ S → lv_has ls 11 [(0, .ref o), (1, .int v1), (2, .int v2), (4, va_rf q4), (5, .int v5), (6, .int v6)] → zc_H D cA P h s H locs → W p l e (zc_Ro 9 C S) s m args below meth c H locs cells slots (vx_MQ below (zc_Q D cA P (fun v h' => ∃ z : Int32, v = some (.int z) ∧ Q z h')) (zc_X D cA P zc_no) args s C S P) (F0 m 43 ls [])) (hK78 : ∀ (h : ZH) (bc bs : Nat) (v1 : Int32) (v2 : Int32) (q4 : Option Nat) (v5 : Int32) (v6 : Int32) (q7 : Option Nat) (v8 : Int32), K78 h bc bs v1 v2 q4 v5 v6 q7 v8 → ∀ (H : Heap) (locs : List Loc) (ls : Array Slot) (cells slots : Nat), cells + bc ≤ C ∧ slots + bs ≤ S → lv_has ls 11 [(0, .ref o), (1, .int v1), (2, .int v2), (4, va_rf q4), (5, .int v5), (6, .int v6), (7, va_rf q7), (8, .int v8)] → zc_H D cA P h s H locs → W p l e (zc_Ro 9 C S) s m args below meth c H locs cells slots (vx_MQ below (zc_Q D cA P (fun v h' => ∃ z : Int32, v = some (.int z) ∧ Q z h')) (zc_X D cA P zc_no) args s C S P) (F0 m 78 ls [])) (hK101 : ∀ (h : ZH) (bc bs : Nat) (v1 : Int32) (v2 : Int32) (q4 : Option Nat) (v5 : Int32) (v6 : Int32) (q7 : Option Nat) (v8 : Int32) (q9 : Option Nat) (v10 : Int32), K101 h bc bs v1 v2 q4 v5 v6 q7 v8 q9 v10 → ∀ (H : Heap) (locs : List Loc) (ls : Array Slot) (cells slots : Nat), cells + bc ≤ C ∧ slots + bs ≤ S → lv_has ls 11 [(0, .ref o), (1, .int v1), (2, .int v2), (4, va_rf q4), (5, .int v5), (6, .int v6), (7, va_rf q7), (8, .int v8), (9, va_rf q9), (10, .int v10)] → zc_H D cA P h s H locs → W p l e (zc_Ro 9 C S) s m args below meth c H locs cells slots (vx_MQ below (zc_Q D cA P (fun v h' => ∃ z : Int32, v = some (.int z) ∧ Q z h')) (zc_X D cA P zc_no) args s C S P) (F0 m 101 ls [])) :
    ∀ (h : ZH) (bc bs : Nat) (v1 : Int32) (v2 : Int32) (q4 : Option Nat) (v5 : Int32) (v6 : Int32) (q7 : Option Nat) (v8 : Int32) (q9 : Option Nat) (v10 : Int32), fc_X1_free_159 G o Q K43 K78 K101 h bc bs v1 v2 q4 v5 v6 q7 v8 q9 v10 → ∀ (H : Heap) (locs : List Loc) (ls : Array Slot) (cells slots : Nat), cells + bc ≤ C ∧ slots + bs ≤ S → lv_has ls 11 [(0, .ref o), (1, .int v1), (2, .int v2), (4, va_rf q4), (5, .int v5), (6, .int v6), (7, va_rf q7), (8, .int v8), (9, va_rf q9), (10, .int v10)] → zc_H D cA P h s H locs → W p l e (zc_Ro 9 C S) s m args below meth c H locs cells slots (vx_MQ below (zc_Q D cA P (fun v h' => ∃ z : Int32, v = some (.int z) ∧ Q z h')) (zc_X D cA P zc_no) args s C S P) (F0 m 159 ls []) := by
  have hx := X.1
  have hb := X.2.1
  have hown := X.2.2.2.1
  have hts := X.2.2.2.2.1
  intro h bc bs v1 v2 q4 v5 v6 q7 v8 q9 v10 hF
  intro H locs ls cells slots hB hl hH
  unfold fc_X1_free_159 at hF
  obtain ⟨x1, ex1⟩ : ∃ z : Int32, z = v10 + 1 := ⟨_, rfl⟩
  have hF := hF x1 ex1
  refine lv_iinc (v := x1) (lv' := [(10, .int x1), (0, .ref o), (1, .int v1), (2, .int v2), (4, va_rf q4), (5, .int v5), (6, .int v6), (7, va_rf q7), (8, .int v8), (9, va_rf q9)]) hx hb dX1_free_159 hl (k := 9) rfl (by rw [ex1]; rfl) (by decide) (by cases q9 <;> rfl) (fun ls hl => ?_)
  refine lv_goto (tgt := 101) hx hb dX1_free_162 (by decide) ?_
  exact hK101 h bc bs v1 v2 q4 v5 v6 q7 v8 q9 x1 hF _ _ _ _ _ hB (lv_sub hl [1, 2, 3, 4, 5, 6, 7, 8, 9, 0] rfl) hH
set_option maxHeartbeats 4000000 in
set_option maxRecDepth 100000 in
theorem wc_X1_free_101 {p : Program} {l : Launch} {e : Env} {s : State} {m : MethodId} {args : Array Value} {below : List Frame} {meth : Method} {c : Code} {D : va_G} {cA : Nat → ClassId} {P : Nat → Prop} {G : Nat × Nat × Nat} {C S : Nat} {o : Nat} {Q : Int32 → ZH → Prop} {K43 : ZH → Nat → Nat → Int32 → Int32 → Option Nat → Int32 → Int32 → Prop} {K78 : ZH → Nat → Nat → Int32 → Int32 → Option Nat → Int32 → Int32 → Option Nat → Int32 → Prop} (X : zc_Cx p l s m args meth c cX1_free 11 (some .int) "ChurchyardBook" D cA P G) (hN : meth.name = "free") (hT : c.exceptionTable.toList = tableOf []) (hK43 : ∀ (h : ZH) (bc bs : Nat) (v1 : Int32) (v2 : Int32) (q4 : Option Nat) (v5 : Int32) (v6 : Int32), K43 h bc bs v1 v2 q4 v5 v6 → ∀ (H : Heap) (locs : List Loc) (ls : Array Slot) (cells slots : Nat), cells + bc ≤ C ∧ slots + bs ≤ S → lv_has ls 11 [(0, .ref o), (1, .int v1), (2, .int v2), (4, va_rf q4), (5, .int v5), (6, .int v6)] → zc_H D cA P h s H locs → W p l e (zc_Ro 9 C S) s m args below meth c H locs cells slots (vx_MQ below (zc_Q D cA P (fun v h' => ∃ z : Int32, v = some (.int z) ∧ Q z h')) (zc_X D cA P zc_no) args s C S P) (F0 m 43 ls [])) (hK78 : ∀ (h : ZH) (bc bs : Nat) (v1 : Int32) (v2 : Int32) (q4 : Option Nat) (v5 : Int32) (v6 : Int32) (q7 : Option Nat) (v8 : Int32), K78 h bc bs v1 v2 q4 v5 v6 q7 v8 → ∀ (H : Heap) (locs : List Loc) (ls : Array Slot) (cells slots : Nat), cells + bc ≤ C ∧ slots + bs ≤ S → lv_has ls 11 [(0, .ref o), (1, .int v1), (2, .int v2), (4, va_rf q4), (5, .int v5), (6, .int v6), (7, va_rf q7), (8, .int v8)] → zc_H D cA P h s H locs → W p l e (zc_Ro 9 C S) s m args below meth c H locs cells slots (vx_MQ below (zc_Q D cA P (fun v h' => ∃ z : Int32, v = some (.int z) ∧ Q z h')) (zc_X D cA P zc_no) args s C S P) (F0 m 78 ls [])) :
    ∀ (n : Nat) (h : ZH) (bc bs : Nat) (v1 : Int32) (v2 : Int32) (q4 : Option Nat) (v5 : Int32) (v6 : Int32) (q7 : Option Nat) (v8 : Int32) (q9 : Option Nat) (v10 : Int32), fc_X1_free_101 G o Q K43 K78 n h bc bs v1 v2 q4 v5 v6 q7 v8 q9 v10 → ∀ (H : Heap) (locs : List Loc) (ls : Array Slot) (cells slots : Nat), cells + bc ≤ C ∧ slots + bs ≤ S → lv_has ls 11 [(0, .ref o), (1, .int v1), (2, .int v2), (4, va_rf q4), (5, .int v5), (6, .int v6), (7, va_rf q7), (8, .int v8), (9, va_rf q9), (10, .int v10)] → zc_H D cA P h s H locs → W p l e (zc_Ro 9 C S) s m args below meth c H locs cells slots (vx_MQ below (zc_Q D cA P (fun v h' => ∃ z : Int32, v = some (.int z) ∧ Q z h')) (zc_X D cA P zc_no) args s C S P) (F0 m 101 ls []) := by
  have hx := X.1
  have hb := X.2.1
  have hown := X.2.2.2.1
  have hts := X.2.2.2.2.1
  intro n
  induction n with
  | zero =>
    intro h bc bs v1 v2 q4 v5 v6 q7 v8 q9 v10 hF
    exact False.elim hF
  | succ n ih =>
    intro h bc bs v1 v2 q4 v5 v6 q7 v8 q9 v10 hF
    intro H locs ls cells slots hB hl hH
    unfold fc_X1_free_101 at hF
    refine zq_aload hx hb dX1_free_101 (lv_at hl 8 rfl) ?_
    refine zq_ifnull (tgt := 165) hx hb dX1_free_103 (by decide) (fun cd => ?_) (fun b1 eb1 => ?_)
    · have hF := hF.1 cd
      exact wc_X1_free_165 X hN hT hK43 hK78 h bc bs v1 v2 q4 v5 v6 q7 v8 hF _ _ _ _ _ hB (lv_sub hl [0, 1, 2, 3, 4, 5, 6, 7] rfl) hH
    · have hF := hF.2 b1 eb1
      refine lv_iload hx hb dX1_free_106 (lv_at hl 9 rfl) ?_
      refine zq_aload hx hb dX1_free_108 (lv_at hl 8 rfl) ?_
      refine zq_st (st2 := [.ref b1, .int v10]) (by rw [eb1]; first | done | rfl) ?_
      obtain ⟨hc, hF⟩ := hF
      refine zc_alen X hH hc dX1_free_110 ?_
      refine lv_icmp_ge (tgt := 165) hx hb dX1_free_111 (by decide) (fun cd => ?_) (fun cd => ?_)
      · have hF := hF.1 cd
        exact wc_X1_free_165 X hN hT hK43 hK78 h bc bs v1 v2 q4 v5 v6 q7 v8 hF _ _ _ _ _ hB (lv_sub hl [0, 1, 2, 3, 4, 5, 6, 7] rfl) hH
      · have hF := hF.2 cd
        refine lv_aload_n hx hb dX1_free_114 rfl (lv_at hl 0 rfl) ?_
        obtain ⟨hc, hF⟩ := hF
        refine zc_getf X hH hc 2 102 ("ChurchyardBook", "book", "LChurchyardBook$Book;", false) (by decide +kernel) (v := va_rf (zr h 102 o)) rfl q216 (Or.inl rfl) dX1_free_115 ?_
        refine zq_aload hx hb dX1_free_118 (lv_at hl 8 rfl) ?_
        refine lv_iload hx hb dX1_free_120 (lv_at hl 9 rfl) ?_
        refine lv_iload_n hx hb dX1_free_122 rfl (lv_at hl 1 rfl) ?_
        refine lv_iload_n hx hb dX1_free_123 rfl (lv_at hl 2 rfl) ?_
        refine zq_aload hx hb dX1_free_124 (lv_at hl 3 rfl) ?_
        obtain ⟨b2, eb2, hF⟩ := hF
        refine zq_st (st2 := [va_rf q4, .int v2, .int v1, .int v10, va_rf q9, .ref b2]) (by rw [eb2]; first | done | rfl) ?_
        obtain ⟨hc, hF⟩ := hF
        refine zc_call (c1 := 0) (s1 := 0) (rest := []) hH hB (Nat.zero_le _) (Nat.zero_le _) (fun hf => zc_rV X hH hc (by decide) rfl (As := [va_rf q9, .int v10, .int v1, .int v2, va_rf q4]) (wc_X5_isFree X.2.2.2.2.2.2.2.1 hF) (lw_V q1598 q1599 q1600 q91 q1601) ⟨rfl, by decide, by decide, rfl⟩ ⟨Nat.le_of_ble_eq_true rfl, Nat.le_of_ble_eq_true rfl, Nat.le_of_ble_eq_true rfl⟩ rfl hl.1 (st0 := [va_rf q4, .int v2, .int v1, .int v10, va_rf q9, .ref b2]) rfl (Nat.le_of_ble_eq_true rfl) dX1_free_126 hf) (fun E9 ce9 q9 h9 H locs hx9 => False.elim hx9) (fun v9 h9 H locs hv9 hH hB => ?_)
        obtain ⟨z3, rfl, hF, rfl⟩ := hv9
        refine lv_if_ne (tgt := 135) hx hb dX1_free_129 (by decide) (fun cd => ?_) (fun cd => ?_)
        · have hF := hF.1 cd
          refine lv_iload hx hb dX1_free_135 (lv_at hl 4 rfl) ?_
          refine lv_if_ne (tgt := 156) hx hb dX1_free_137 (by decide) (fun cd => ?_) (fun cd => ?_)
          · have hF := hF.1 cd
            obtain ⟨x4, ex4⟩ : ∃ z : Int32, z = v5 + (-1) := ⟨_, rfl⟩
            have hF := hF x4 ex4
            refine lv_iinc (v := x4) (lv' := [(5, .int x4), (0, .ref o), (1, .int v1), (2, .int v2), (4, va_rf q4), (6, .int v6), (7, va_rf q7), (8, .int v8), (9, va_rf q9), (10, .int v10)]) hx hb dX1_free_156 hl (k := 4) rfl (by rw [ex4]; rfl) (by decide) (by cases q4 <;> rfl) (fun ls hl => ?_)
            exact wc_X1_free_159 X hN hT hK43 hK78 ih h bc bs v1 v2 q4 x4 v6 q7 v8 q9 v10 hF _ _ _ _ _ hB (lv_sub hl [1, 2, 3, 4, 0, 5, 6, 7, 8, 9] rfl) hH
          · have hF := hF.2 cd
            refine lv_sipush (v := 1000) hx hb dX1_free_140 (by decide) ?_
            refine lv_iload hx hb dX1_free_143 (lv_at hl 5 rfl) ?_
            refine lv_imul hx hb dX1_free_145 ?_
            refine lv_bipush (v := 50) hx hb dX1_free_146 (by decide) ?_
            refine lv_iload hx hb dX1_free_148 (lv_at hl 7 rfl) ?_
            refine lv_imul hx hb dX1_free_150 ?_
            refine lv_iadd hx hb dX1_free_151 ?_
            refine lv_iload hx hb dX1_free_152 (lv_at hl 9 rfl) ?_
            refine lv_iadd hx hb dX1_free_154 ?_
            exact zc_iret X hH hB rfl rfl ⟨_, rfl, hF⟩ dX1_free_155
        · have hF := hF.2 cd
          refine lv_goto (tgt := 159) hx hb dX1_free_132 (by decide) ?_
          exact wc_X1_free_159 X hN hT hK43 hK78 ih h bc bs v1 v2 q4 v5 v6 q7 v8 q9 v10 hF _ _ _ _ _ hB (lv_sub hl [0, 1, 2, 3, 4, 5, 6, 7, 8, 9] rfl) hH
set_option maxHeartbeats 4000000 in
set_option maxRecDepth 100000 in
theorem wc_X1_free_78 {p : Program} {l : Launch} {e : Env} {s : State} {m : MethodId} {args : Array Value} {below : List Frame} {meth : Method} {c : Code} {D : va_G} {cA : Nat → ClassId} {P : Nat → Prop} {G : Nat × Nat × Nat} {C S : Nat} {o : Nat} {Q : Int32 → ZH → Prop} {K43 : ZH → Nat → Nat → Int32 → Int32 → Option Nat → Int32 → Int32 → Prop} (X : zc_Cx p l s m args meth c cX1_free 11 (some .int) "ChurchyardBook" D cA P G) (hN : meth.name = "free") (hT : c.exceptionTable.toList = tableOf []) (hK43 : ∀ (h : ZH) (bc bs : Nat) (v1 : Int32) (v2 : Int32) (q4 : Option Nat) (v5 : Int32) (v6 : Int32), K43 h bc bs v1 v2 q4 v5 v6 → ∀ (H : Heap) (locs : List Loc) (ls : Array Slot) (cells slots : Nat), cells + bc ≤ C ∧ slots + bs ≤ S → lv_has ls 11 [(0, .ref o), (1, .int v1), (2, .int v2), (4, va_rf q4), (5, .int v5), (6, .int v6)] → zc_H D cA P h s H locs → W p l e (zc_Ro 9 C S) s m args below meth c H locs cells slots (vx_MQ below (zc_Q D cA P (fun v h' => ∃ z : Int32, v = some (.int z) ∧ Q z h')) (zc_X D cA P zc_no) args s C S P) (F0 m 43 ls [])) :
    ∀ (n : Nat) (h : ZH) (bc bs : Nat) (v1 : Int32) (v2 : Int32) (q4 : Option Nat) (v5 : Int32) (v6 : Int32) (q7 : Option Nat) (v8 : Int32), fc_X1_free_78 G o Q K43 n h bc bs v1 v2 q4 v5 v6 q7 v8 → ∀ (H : Heap) (locs : List Loc) (ls : Array Slot) (cells slots : Nat), cells + bc ≤ C ∧ slots + bs ≤ S → lv_has ls 11 [(0, .ref o), (1, .int v1), (2, .int v2), (4, va_rf q4), (5, .int v5), (6, .int v6), (7, va_rf q7), (8, .int v8)] → zc_H D cA P h s H locs → W p l e (zc_Ro 9 C S) s m args below meth c H locs cells slots (vx_MQ below (zc_Q D cA P (fun v h' => ∃ z : Int32, v = some (.int z) ∧ Q z h')) (zc_X D cA P zc_no) args s C S P) (F0 m 78 ls []) := by
  have hx := X.1
  have hb := X.2.1
  have hown := X.2.2.2.1
  have hts := X.2.2.2.2.1
  intro n
  induction n with
  | zero =>
    intro h bc bs v1 v2 q4 v5 v6 q7 v8 hF
    exact False.elim hF
  | succ n ih =>
    intro h bc bs v1 v2 q4 v5 v6 q7 v8 hF
    intro H locs ls cells slots hB hl hH
    unfold fc_X1_free_78 at hF
    refine lv_iload hx hb dX1_free_78 (lv_at hl 7 rfl) ?_
    refine zq_aload hx hb dX1_free_80 (lv_at hl 6 rfl) ?_
    obtain ⟨b1, eb1, hF⟩ := hF
    refine zq_st (st2 := [.ref b1, .int v8]) (by rw [eb1]; first | done | rfl) ?_
    obtain ⟨hc, hF⟩ := hF
    refine zc_getf X hH hc 2 502 ("ChurchyardBook$Field", "many", "I", false) (by decide +kernel) (v := .int (zi h 502 b1)) rfl q368 (Or.inl rfl) dX1_free_82 ?_
    refine lv_icmp_ge (tgt := 171) hx hb dX1_free_85 (by decide) (fun cd => ?_) (fun cd => ?_)
    · have hF := hF.1 cd
      obtain ⟨x2, ex2⟩ : ∃ z : Int32, z = v6 + 1 := ⟨_, rfl⟩
      have hF := hF x2 ex2
      refine lv_iinc (v := x2) (lv' := [(6, .int x2), (0, .ref o), (1, .int v1), (2, .int v2), (4, va_rf q4), (5, .int v5), (7, va_rf q7), (8, .int v8)]) hx hb dX1_free_171 hl (k := 5) rfl (by rw [ex2]; rfl) (by decide) rfl (fun ls hl => ?_)
      refine lv_goto (tgt := 43) hx hb dX1_free_174 (by decide) ?_
      exact hK43 h bc bs v1 v2 q4 v5 x2 hF _ _ _ _ _ hB (lv_sub hl [1, 2, 3, 4, 5, 0] rfl) hH
    · have hF := hF.2 cd
      refine zq_aload hx hb dX1_free_88 (lv_at hl 6 rfl) ?_
      refine zq_st (st2 := [.ref b1]) (by rw [eb1]; first | done | rfl) ?_
      obtain ⟨hc, hF⟩ := hF
      refine zc_getf X hH hc 1 501 ("ChurchyardBook$Field", "rows", "[[LChurchyardBook$Place;", true) (by decide +kernel) (v := va_rf (zr h 501 b1)) rfl q366 (Or.inl rfl) dX1_free_90 ?_
      refine lv_iload hx hb dX1_free_93 (lv_at hl 7 rfl) ?_
      obtain ⟨b3, eb3, hF⟩ := hF
      refine zq_st (st2 := [.int v8, .ref b3]) (by rw [eb3]; first | done | rfl) ?_
      obtain ⟨hc, hF⟩ := hF
      obtain ⟨hI, hF⟩ := hF
      refine zc_aald X hH [27] 7 hc (by decide) hI dX1_free_95 ?_
      refine zq_top (fun r4 er4 => ?_)
      have hF := hF r4 er4
      refine zq_astore (r := r4) (lv' := [(9, va_rf r4), (0, .ref o), (1, .int v1), (2, .int v2), (4, va_rf q4), (5, .int v5), (6, .int v6), (7, va_rf q7), (8, .int v8)]) hx hb rfl dX1_free_96 hl (by decide) rfl (fun ls hl => ?_)
      refine lv_iconst (v := 0) hx hb dX1_free_98 (by decide) ?_
      refine lv_istore (lv' := [(10, .int 0), (9, va_rf r4), (0, .ref o), (1, .int v1), (2, .int v2), (4, va_rf q4), (5, .int v5), (6, .int v6), (7, va_rf q7), (8, .int v8)]) hx hb dX1_free_99 hl (by decide) (by cases r4 <;> rfl) (fun ls hl => ?_)
      obtain ⟨n9, hF⟩ := hF
      exact wc_X1_free_101 X hN hT hK43 ih n9 h bc bs v1 v2 q4 v5 v6 q7 v8 r4 0 hF _ _ _ _ _ hB (lv_sub hl [2, 3, 4, 5, 6, 7, 8, 9, 1, 0] rfl) hH
set_option maxHeartbeats 4000000 in
set_option maxRecDepth 100000 in
theorem wc_X1_free_43 {p : Program} {l : Launch} {e : Env} {s : State} {m : MethodId} {args : Array Value} {below : List Frame} {meth : Method} {c : Code} {D : va_G} {cA : Nat → ClassId} {P : Nat → Prop} {G : Nat × Nat × Nat} {C S : Nat} {o : Nat} {Q : Int32 → ZH → Prop} (X : zc_Cx p l s m args meth c cX1_free 11 (some .int) "ChurchyardBook" D cA P G) (hN : meth.name = "free") (hT : c.exceptionTable.toList = tableOf []) :
    ∀ (n : Nat) (h : ZH) (bc bs : Nat) (v1 : Int32) (v2 : Int32) (q4 : Option Nat) (v5 : Int32) (v6 : Int32), fc_X1_free_43 G o Q n h bc bs v1 v2 q4 v5 v6 → ∀ (H : Heap) (locs : List Loc) (ls : Array Slot) (cells slots : Nat), cells + bc ≤ C ∧ slots + bs ≤ S → lv_has ls 11 [(0, .ref o), (1, .int v1), (2, .int v2), (4, va_rf q4), (5, .int v5), (6, .int v6)] → zc_H D cA P h s H locs → W p l e (zc_Ro 9 C S) s m args below meth c H locs cells slots (vx_MQ below (zc_Q D cA P (fun v h' => ∃ z : Int32, v = some (.int z) ∧ Q z h')) (zc_X D cA P zc_no) args s C S P) (F0 m 43 ls []) := by
  have hx := X.1
  have hb := X.2.1
  have hown := X.2.2.2.1
  have hts := X.2.2.2.2.1
  intro n
  induction n with
  | zero =>
    intro h bc bs v1 v2 q4 v5 v6 hF
    exact False.elim hF
  | succ n ih =>
    intro h bc bs v1 v2 q4 v5 v6 hF
    intro H locs ls cells slots hB hl hH
    unfold fc_X1_free_43 at hF
    refine lv_iload hx hb dX1_free_43 (lv_at hl 5 rfl) ?_
    refine lv_aload_n hx hb dX1_free_45 rfl (lv_at hl 0 rfl) ?_
    obtain ⟨hc, hF⟩ := hF
    refine zc_getf X hH hc 2 102 ("ChurchyardBook", "book", "LChurchyardBook$Book;", false) (by decide +kernel) (v := va_rf (zr h 102 o)) rfl q216 (Or.inl rfl) dX1_free_46 ?_
    obtain ⟨b1, eb1, hF⟩ := hF
    refine zq_st (st2 := [.ref b1, .int v6]) (by rw [eb1]; first | done | rfl) ?_
    obtain ⟨hc, hF⟩ := hF
    refine zc_getf X hH hc 0 200 ("ChurchyardBook$Book", "fields", "Ljava/util/ArrayList;", true) (by decide +kernel) (v := va_rf (zr h 200 b1)) rfl q189 (Or.inl rfl) dX1_free_49 ?_
    obtain ⟨b2, eb2, hF⟩ := hF
    refine zq_st (st2 := [.ref b2, .int v6]) (by rw [eb2]; first | done | rfl) ?_
    obtain ⟨hc, hF⟩ := hF
    refine zc_call (c1 := 0) (s1 := 0) (rest := [.int v6]) hH hB (Nat.zero_le _) (Nat.zero_le _) (fun hf => zc_rV X hH hc (by decide) rfl (As := []) (wc_J2_size X.2.2.2.2.2.2.2.1 hF) (lw_V q1595 q350 q351 q94 q352) ⟨rfl, by decide, by decide, rfl⟩ ⟨Nat.le_of_ble_eq_true rfl, Nat.le_of_ble_eq_true rfl, Nat.le_of_ble_eq_true rfl⟩ rfl hl.1 (st0 := [.ref b2, .int v6]) rfl (Nat.le_of_ble_eq_true rfl) dX1_free_52 hf) (fun E9 ce9 q9 h9 H locs hx9 => False.elim hx9) (fun v9 h9 H locs hv9 hH hB => ?_)
    obtain ⟨z3, rfl, hF, rfl⟩ := hv9
    refine lv_icmp_ge (tgt := 177) hx hb dX1_free_55 (by decide) (fun cd => ?_) (fun cd => ?_)
    · have hF := hF.1 cd
      refine lv_iconst (v := (-1)) hx hb dX1_free_177 (by decide) ?_
      exact zc_iret X hH hB rfl rfl ⟨_, rfl, hF⟩ dX1_free_178
    · have hF := hF.2 cd
      refine lv_aload_n hx hb dX1_free_58 rfl (lv_at hl 0 rfl) ?_
      obtain ⟨hc, hF⟩ := hF
      refine zc_getf X hH hc 2 102 ("ChurchyardBook", "book", "LChurchyardBook$Book;", false) (by decide +kernel) (v := va_rf (zr h 102 o)) rfl q216 (Or.inl rfl) dX1_free_59 ?_
      refine zq_st (st2 := [.ref b1]) (by rw [eb1]; first | done | rfl) ?_
      obtain ⟨hc, hF⟩ := hF
      refine zc_getf X hH hc 0 200 ("ChurchyardBook$Book", "fields", "Ljava/util/ArrayList;", true) (by decide +kernel) (v := va_rf (zr h 200 b1)) rfl q189 (Or.inl rfl) dX1_free_62 ?_
      refine lv_iload hx hb dX1_free_65 (lv_at hl 5 rfl) ?_
      refine zq_st (st2 := [.int v6, .ref b2]) (by rw [eb2]; first | done | rfl) ?_
      obtain ⟨hc, hF⟩ := hF
      refine zc_call (c1 := 0) (s1 := 0) (rest := []) hH hB (Nat.zero_le _) (Nat.zero_le _) (fun hf => zc_rV X hH hc (by decide) rfl (As := [.int v6]) (wc_J2_get X.2.2.2.2.2.2.2.1 hF) (lw_V q1596 q476 q477 q94 q478) ⟨rfl, by decide, by decide, rfl⟩ ⟨Nat.le_of_ble_eq_true rfl, Nat.le_of_ble_eq_true rfl, Nat.le_of_ble_eq_true rfl⟩ rfl hl.1 (st0 := [.int v6, .ref b2]) rfl (Nat.le_of_ble_eq_true rfl) dX1_free_67 hf) (fun E9 ce9 q9 h9 H locs hx9 => False.elim hx9) (fun v9 h9 H locs hv9 hH hB => ?_)
      obtain ⟨r4, rfl, hF, rfl⟩ := hv9
      obtain ⟨hR, hF⟩ := hF
      refine zc_castY X hH (r := r4) [7] "ChurchyardBook$Field" hR (by decide) (by decide +kernel) q1597 dX1_free_70 ?_
      refine zq_astore (r := r4) (lv' := [(7, va_rf r4), (0, .ref o), (1, .int v1), (2, .int v2), (4, va_rf q4), (5, .int v5), (6, .int v6)]) hx hb rfl dX1_free_73 hl (by decide) rfl (fun ls hl => ?_)
      refine lv_iconst (v := 0) hx hb dX1_free_75 (by decide) ?_
      refine lv_istore (lv' := [(8, .int 0), (7, va_rf r4), (0, .ref o), (1, .int v1), (2, .int v2), (4, va_rf q4), (5, .int v5), (6, .int v6)]) hx hb dX1_free_76 hl (by decide) (by cases r4 <;> rfl) (fun ls hl => ?_)
      obtain ⟨n9, hF⟩ := hF
      exact wc_X1_free_78 X hN hT ih n9 h bc bs v1 v2 q4 v5 v6 r4 0 hF _ _ _ _ _ hB (lv_sub hl [2, 3, 4, 5, 6, 7, 1, 0] rfl) hH
set_option maxHeartbeats 4000000 in
set_option maxRecDepth 100000 in
theorem wc_X1_free {l : Launch} {D : va_G} {cA : Nat → ClassId} {P : Nat → Prop} {G : Nat × Nat × Nat} {o : Nat} {Q : Int32 → ZH → Prop} {h : ZH} {C S : Nat} {v1 : Int32} {v2 : Int32} {v3 : Int32} (hl9 : l.stackTraces = false) (hF : fc_X1_free G o Q h C S v1 v2 v3) :
    zc_M l yX1_free (ws_ yX1_free cX1_free 11 (some .int)) 9 D cA P G [.ref o, .int v1, .int v2, .int v3] h C S (fun v h' => ∃ z : Int32, v = some (.int z) ∧ Q z h') zc_no := by
  refine zc_ofF hl9 rfl (by decide +kernel) (Nat.le_of_ble_eq_true rfl) ?_
  intro p e s m args below meth c H locs ls X hN hT hH hl
  have hx := X.1
  have hb := X.2.1
  have hown := X.2.2.2.1
  have hts := X.2.2.2.2.1
  have hl : lv_has ls 11 [(0, .ref o), (1, .int v1), (2, .int v2), (3, .int v3)] := hl
  have hB : 0 + C ≤ C ∧ 0 + S ≤ S := ⟨by omega, by omega⟩
  unfold fc_X1_free at hF
  refine lv_iload_n hx hb dX1_free_0 rfl (lv_at hl 1 rfl) ?_
  refine lv_iconst (v := 1) hx hb dX1_free_1 (by decide) ?_
  refine lv_icmp_lt (tgt := 23) hx hb dX1_free_2 (by decide) (fun cd => ?_) (fun cd => ?_)
  · have hF := hF.1 cd
    refine lv_iconst (v := (-1)) hx hb dX1_free_23 (by decide) ?_
    exact zc_iret X hH hB rfl rfl ⟨_, rfl, hF⟩ dX1_free_24
  · have hF := hF.2 cd
    refine lv_iload_n hx hb dX1_free_5 rfl (lv_at hl 1 rfl) ?_
    refine lv_bipush (v := 6) hx hb dX1_free_6 (by decide) ?_
    refine lv_icmp_gt (tgt := 23) hx hb dX1_free_8 (by decide) (fun cd => ?_) (fun cd => ?_)
    · have hF := hF.1 cd
      refine lv_iconst (v := (-1)) hx hb dX1_free_23 (by decide) ?_
      exact zc_iret X hH hB rfl rfl ⟨_, rfl, hF⟩ dX1_free_24
    · have hF := hF.2 cd
      refine lv_iload_n hx hb dX1_free_11 rfl (lv_at hl 1 rfl) ?_
      refine lv_iload_n hx hb dX1_free_12 rfl (lv_at hl 2 rfl) ?_
      refine zc_call (c1 := 0) (s1 := 0) (rest := []) hH hB (Nat.zero_le _) (Nat.zero_le _) (fun hf => zc_rS X hH (As := [.int v1, .int v2]) (wc_X1_isWide X.2.2.2.2.2.2.2.1 hF) (lw_S q1593 q629 q87 q630) ⟨by decide, by decide, rfl⟩ ⟨Nat.le_of_ble_eq_true rfl, Nat.le_of_ble_eq_true rfl, Nat.le_of_ble_eq_true rfl⟩ rfl hl.1 (st0 := [.int v2, .int v1]) rfl (Nat.le_of_ble_eq_true rfl) dX1_free_13 hf) (fun E9 ce9 q9 h9 H locs hx9 => False.elim hx9) (fun v9 h9 H locs hv9 hH hB => ?_)
      obtain ⟨z1, rfl, hF, rfl⟩ := hv9
      refine lv_if_eq (tgt := 23) hx hb dX1_free_16 (by decide) (fun cd => ?_) (fun cd => ?_)
      · have hF := hF.1 cd
        refine lv_iconst (v := (-1)) hx hb dX1_free_23 (by decide) ?_
        exact zc_iret X hH hB rfl rfl ⟨_, rfl, hF⟩ dX1_free_24
      · have hF := hF.2 cd
        refine lv_iload_n hx hb dX1_free_19 rfl (lv_at hl 3 rfl) ?_
        refine lv_if_ge (tgt := 25) hx hb dX1_free_20 (by decide) (fun cd => ?_) (fun cd => ?_)
        · have hF := hF.1 cd
          refine lv_iconst (v := 0) hx hb dX1_free_25 (by decide) ?_
          refine lv_iconst (v := 0) hx hb dX1_free_26 (by decide) ?_
          refine lv_iconst (v := 0) hx hb dX1_free_27 (by decide) ?_
          refine lv_iconst (v := 0) hx hb dX1_free_28 (by decide) ?_
          refine lv_iload_n hx hb dX1_free_29 rfl (lv_at hl 1 rfl) ?_
          refine lv_iload_n hx hb dX1_free_30 rfl (lv_at hl 2 rfl) ?_
          refine lv_iconst (v := 0) hx hb dX1_free_31 (by decide) ?_
          obtain ⟨c2, s3, hc1, hs1, hF⟩ := hF
          refine zc_call (c1 := c2) (s1 := s3) (rest := []) hH hB hc1 hs1 (fun hf => zc_rS X hH (As := [.int 0, .int 0, .int 0, .int 0, .int v1, .int v2, .int 0]) (wc_X1_newGrave X.2.2.2.2.2.2.2.1 hF) (lw_S q1594 q641 q87 q642) ⟨by decide, by decide, rfl⟩ ⟨Nat.le_of_ble_eq_true rfl, Nat.le_of_ble_eq_true rfl, Nat.le_of_ble_eq_true rfl⟩ rfl hl.1 (st0 := [.int 0, .int v2, .int v1, .int 0, .int 0, .int 0, .int 0]) rfl (Nat.le_of_ble_eq_true rfl) dX1_free_32 hf) (fun E9 ce9 q9 h9 H locs hx9 => False.elim hx9) (fun v9 h5 H locs hv9 hH hB => ?_)
          obtain ⟨r4, rfl, hF⟩ := hv9
          refine zq_astore (r := r4) (lv' := [(4, va_rf r4), (0, .ref o), (1, .int v1), (2, .int v2), (3, .int v3)]) hx hb rfl dX1_free_35 hl (by decide) rfl (fun ls hl => ?_)
          refine lv_iload_n hx hb dX1_free_37 rfl (lv_at hl 4 rfl) ?_
          refine lv_istore (lv' := [(5, .int v3), (4, va_rf r4), (0, .ref o), (1, .int v1), (2, .int v2), (3, .int v3)]) hx hb dX1_free_38 hl (by decide) (by cases r4 <;> rfl) (fun ls hl => ?_)
          refine lv_iconst (v := 0) hx hb dX1_free_40 (by decide) ?_
          refine lv_istore (lv' := [(6, .int 0), (5, .int v3), (4, va_rf r4), (0, .ref o), (1, .int v1), (2, .int v2), (3, .int v3)]) hx hb dX1_free_41 hl (by decide) rfl (fun ls hl => ?_)
          obtain ⟨n9, hF⟩ := hF
          exact wc_X1_free_43 X hN hT n9 h5 (C - c2) (S - s3) v1 v2 r4 v3 0 hF _ _ _ _ _ hB (lv_sub hl [3, 4, 5, 2, 1, 0] rfl) hH
        · have hF := hF.2 cd
          refine lv_iconst (v := (-1)) hx hb dX1_free_23 (by decide) ?_
          exact zc_iret X hH hB rfl rfl ⟨_, rfl, hF⟩ dX1_free_24
set_option maxHeartbeats 4000000 in
set_option maxRecDepth 100000 in
theorem wc_X3_what {l : Launch} {D : va_G} {cA : Nat → ClassId} {P : Nat → Prop} {G : Nat × Nat × Nat} {o : Nat} {Q : Int32 → Prop} {h : ZH} {C S : Nat} (hl9 : l.stackTraces = false) (hF : fc_X3_what G o Q h) :
    zc_M l yX3_what (ws_ yX3_what cX3_what 1 (some .int)) 1 D cA P G [.ref o] h C S (fun v h' => ∃ z : Int32, v = some (.int z) ∧ Q z ∧ h = h') zc_no := by
  refine zc_ofF hl9 rfl (by decide +kernel) (Nat.le_of_ble_eq_true rfl) ?_
  intro p e s m args below meth c H locs ls X hN hT hH hl
  have hx := X.1
  have hb := X.2.1
  have hown := X.2.2.2.1
  have hts := X.2.2.2.2.1
  have hl : lv_has ls 1 [(0, .ref o)] := hl
  have hB : 0 + 0 ≤ C ∧ 0 + 0 ≤ S := ⟨by omega, by omega⟩
  have eh : h = h := rfl
  unfold fc_X3_what at hF
  refine lv_iconst (v := 1) hx hb dX3_what_0 (by decide) ?_
  exact zc_iret X hH hB rfl rfl ⟨_, rfl, hF, eh⟩ dX3_what_1
set_option maxHeartbeats 4000000 in
set_option maxRecDepth 100000 in
theorem wc_X4_what {l : Launch} {D : va_G} {cA : Nat → ClassId} {P : Nat → Prop} {G : Nat × Nat × Nat} {o : Nat} {Q : Int32 → Prop} {h : ZH} {C S : Nat} (hl9 : l.stackTraces = false) (hF : fc_X4_what G o Q h) :
    zc_M l yX4_what (ws_ yX4_what cX4_what 1 (some .int)) 1 D cA P G [.ref o] h C S (fun v h' => ∃ z : Int32, v = some (.int z) ∧ Q z ∧ h = h') zc_no := by
  refine zc_ofF hl9 rfl (by decide +kernel) (Nat.le_of_ble_eq_true rfl) ?_
  intro p e s m args below meth c H locs ls X hN hT hH hl
  have hx := X.1
  have hb := X.2.1
  have hown := X.2.2.2.1
  have hts := X.2.2.2.2.1
  have hl : lv_has ls 1 [(0, .ref o)] := hl
  have hB : 0 + 0 ≤ C ∧ 0 + 0 ≤ S := ⟨by omega, by omega⟩
  have eh : h = h := rfl
  unfold fc_X4_what at hF
  refine lv_iconst (v := 2) hx hb dX4_what_0 (by decide) ?_
  exact zc_iret X hH hB rfl rfl ⟨_, rfl, hF, eh⟩ dX4_what_1
set_option maxHeartbeats 4000000 in
set_option maxRecDepth 100000 in
theorem wc_X9_what {l : Launch} {D : va_G} {cA : Nat → ClassId} {P : Nat → Prop} {G : Nat × Nat × Nat} {o : Nat} {Q : Int32 → Prop} {h : ZH} {C S : Nat} (hl9 : l.stackTraces = false) (hF : fc_X9_what G o Q h) :
    zc_M l yX9_what (ws_ yX9_what cX9_what 1 (some .int)) 1 D cA P G [.ref o] h C S (fun v h' => ∃ z : Int32, v = some (.int z) ∧ Q z ∧ h = h') zc_no := by
  refine zc_ofF hl9 rfl (by decide +kernel) (Nat.le_of_ble_eq_true rfl) ?_
  intro p e s m args below meth c H locs ls X hN hT hH hl
  have hx := X.1
  have hb := X.2.1
  have hown := X.2.2.2.1
  have hts := X.2.2.2.2.1
  have hl : lv_has ls 1 [(0, .ref o)] := hl
  have hB : 0 + 0 ≤ C ∧ 0 + 0 ≤ S := ⟨by omega, by omega⟩
  have eh : h = h := rfl
  unfold fc_X9_what at hF
  refine lv_bipush (v := 10) hx hb dX9_what_0 (by decide) ?_
  refine lv_aload_n hx hb dX9_what_2 rfl (lv_at hl 0 rfl) ?_
  obtain ⟨hc, hF⟩ := hF
  refine zc_getf X hH hc 0 600 ("ChurchyardBook$Grave", "number", "I", true) (by decide +kernel) (v := .int (zi h 600 o)) rfl q654 (Or.inl rfl) dX9_what_3 ?_
  refine lv_iadd hx hb dX9_what_6 ?_
  exact zc_iret X hH hB rfl rfl ⟨_, rfl, hF, eh⟩ dX9_what_7
set_option maxHeartbeats 1000000 in
theorem rv_what_32 {p : Program} {l : Launch} {e : Env} {R : Room} {s : State} {m : MethodId} {args : Array Value} {below : List Frame} {meth : Method} {c : Code} {H : Heap} {locs : List Loc} {cells slots : Nat} {cc : ByteArray} {nL pc : Nat} {ret : Option FieldType} {own : String} {ls : Array Slot} {rest : List Value} {D : va_G} {cA : Nat → ClassId} {P : Nat → Prop} {G : Nat × Nat × Nat} {h : ZH} {C S a idx : Nat} {Q : Int32 → Prop} (X : zc_Cx p l s m args meth c cc nL ret own D cA P G) (hH : zc_H D cA P h s H locs) (hlk : Cond.methodLink own idx ⟨"ChurchyardBook$Place", "what", "()I"⟩ ∈ lw_all) (hF : fv_what_32 G a Q h) (hR : zc_rm R 1 11) (hsize : ls.size = nL) {st0 : List Value} (hst : st0 = ([] : List Value).reverse ++ .ref a :: rest) (hcat : (rest.map fun v => v.category).sum ≤ 8) (hdg : decode cc pc = .ok (.invokevirtual idx, 3)) (hf : cells + C ≤ R.cells ∧ slots + S ≤ R.slots) :
    vx_Run p l e R s m args below meth c H locs cells slots C S (F0 m pc ls st0) rest (zc_Q D cA P (fun v h' => ∃ z : Int32, v = some (.int z) ∧ Q z ∧ h = h') (Value.ref a :: []).toArray) (zc_X D cA P zc_no) P := by
  unfold fv_what_32 at hF
  have hR9 := hR
  obtain ⟨hc, hF⟩ := hF
  simp only [List.mem_cons, List.not_mem_nil, or_false] at hc
  rcases hc with hc | hc | hc | hc | hc | hc | hc | hc
  · have hF := hF.1 (by rw [hc]; decide)
    exact zc_rU X hH hc (by decide) rfl (owner := "ChurchyardBook$Place") (x := ⟨"ChurchyardBook$Place", "what", "()I"⟩) (As := []) (wc_X3_what X.2.2.2.2.2.2.2.1 hF) (lw_meth q1629) (X.2.2.2.2.1 _ hlk) (X.2.2.2.2.1 _ q1619) (zc_declA X (by decide +kernel)) (X.2.2.2.2.1 _ q1627) q1628 q89 ⟨by decide, by decide, rfl⟩ (zc_rm_le hR9 (by decide) (by decide)) rfl hsize hst hcat hdg hf
  · have hF := hF.2.1 (by rw [hc]; decide)
    exact zc_rU X hH hc (by decide) rfl (owner := "ChurchyardBook$Place") (x := ⟨"ChurchyardBook$Place", "what", "()I"⟩) (As := []) (wc_X4_what X.2.2.2.2.2.2.2.1 hF) (lw_meth q1633) (X.2.2.2.2.1 _ hlk) (X.2.2.2.2.1 _ q1619) (zc_declA X (by decide +kernel)) (X.2.2.2.2.1 _ q1631) q1632 q90 ⟨by decide, by decide, rfl⟩ (zc_rm_le hR9 (by decide) (by decide)) rfl hsize hst hcat hdg hf
  · have hF := hF.2.2 (by rw [hc]; decide)
    exact zc_rU X hH hc (by decide) rfl (owner := "ChurchyardBook$Place") (x := ⟨"ChurchyardBook$Place", "what", "()I"⟩) (As := []) (wc_X9_what X.2.2.2.2.2.2.2.1 hF) (lw_meth q1622) (X.2.2.2.2.1 _ hlk) (X.2.2.2.2.1 _ q1619) (zc_declA X (by decide +kernel)) (X.2.2.2.2.1 _ q1626) q1621 q114 ⟨by decide, by decide, rfl⟩ (zc_rm_le hR9 (by decide) (by decide)) rfl hsize hst hcat hdg hf
  · have hF := hF.2.2 (by rw [hc]; decide)
    exact zc_rU X hH hc (by decide) rfl (owner := "ChurchyardBook$Place") (x := ⟨"ChurchyardBook$Place", "what", "()I"⟩) (As := []) (wc_X9_what X.2.2.2.2.2.2.2.1 hF) (lw_meth q1622) (X.2.2.2.2.1 _ hlk) (X.2.2.2.2.1 _ q1619) (zc_declA X (by decide +kernel)) (X.2.2.2.2.1 _ q1623) q1621 q114 ⟨by decide, by decide, rfl⟩ (zc_rm_le hR9 (by decide) (by decide)) rfl hsize hst hcat hdg hf
  · have hF := hF.2.2 (by rw [hc]; decide)
    exact zc_rU X hH hc (by decide) rfl (owner := "ChurchyardBook$Place") (x := ⟨"ChurchyardBook$Place", "what", "()I"⟩) (As := []) (wc_X9_what X.2.2.2.2.2.2.2.1 hF) (lw_meth q1622) (X.2.2.2.2.1 _ hlk) (X.2.2.2.2.1 _ q1619) (zc_declA X (by decide +kernel)) (X.2.2.2.2.1 _ q1624) q1621 q114 ⟨by decide, by decide, rfl⟩ (zc_rm_le hR9 (by decide) (by decide)) rfl hsize hst hcat hdg hf
  · have hF := hF.2.2 (by rw [hc]; decide)
    exact zc_rU X hH hc (by decide) rfl (owner := "ChurchyardBook$Place") (x := ⟨"ChurchyardBook$Place", "what", "()I"⟩) (As := []) (wc_X9_what X.2.2.2.2.2.2.2.1 hF) (lw_meth q1622) (X.2.2.2.2.1 _ hlk) (X.2.2.2.2.1 _ q1619) (zc_declA X (by decide +kernel)) (X.2.2.2.2.1 _ q1630) q1621 q114 ⟨by decide, by decide, rfl⟩ (zc_rm_le hR9 (by decide) (by decide)) rfl hsize hst hcat hdg hf
  · have hF := hF.2.2 (by rw [hc]; decide)
    exact zc_rU X hH hc (by decide) rfl (owner := "ChurchyardBook$Place") (x := ⟨"ChurchyardBook$Place", "what", "()I"⟩) (As := []) (wc_X9_what X.2.2.2.2.2.2.2.1 hF) (lw_meth q1622) (X.2.2.2.2.1 _ hlk) (X.2.2.2.2.1 _ q1619) (zc_declA X (by decide +kernel)) (X.2.2.2.2.1 _ q1625) q1621 q114 ⟨by decide, by decide, rfl⟩ (zc_rm_le hR9 (by decide) (by decide)) rfl hsize hst hcat hdg hf
  · have hF := hF.2.2 (by rw [hc]; decide)
    exact zc_rU X hH hc (by decide) rfl (owner := "ChurchyardBook$Place") (x := ⟨"ChurchyardBook$Place", "what", "()I"⟩) (As := []) (wc_X9_what X.2.2.2.2.2.2.2.1 hF) (lw_meth q1622) (X.2.2.2.2.1 _ hlk) (X.2.2.2.2.1 _ q1619) (zc_declA X (by decide +kernel)) (X.2.2.2.2.1 _ q1620) q1621 q114 ⟨by decide, by decide, rfl⟩ (zc_rm_le hR9 (by decide) (by decide)) rfl hsize hst hcat hdg hf
set_option maxHeartbeats 4000000 in
set_option maxRecDepth 100000 in
theorem wc_X1_spot_34 {p : Program} {l : Launch} {e : Env} {s : State} {m : MethodId} {args : Array Value} {below : List Frame} {meth : Method} {c : Code} {D : va_G} {cA : Nat → ClassId} {P : Nat → Prop} {G : Nat × Nat × Nat} {C S : Nat} {o : Nat} {Q : Int32 → ZH → Prop} (X : zc_Cx p l s m args meth c cX1_spot 5 (some .int) "ChurchyardBook" D cA P G) (hN : meth.name = "spot") (hT : c.exceptionTable.toList = tableOf [(0, 33, 34, 63)]) :
    ∀ (h : ZH) (bc bs : Nat) (u0 : Option Nat), fc_X1_spot_34 G o Q h bc bs u0 → ∀ (H : Heap) (locs : List Loc) (ls : Array Slot) (cells slots : Nat), cells + bc ≤ C ∧ slots + bs ≤ S → lv_has ls 5 [(0, .ref o)] → zc_H D cA P h s H locs → W p l e (zc_Ro 5 C S) s m args below meth c H locs cells slots (vx_MQ below (zc_Q D cA P (fun v h' => ∃ z : Int32, v = some (.int z) ∧ Q z h')) (zc_X D cA P zc_no) args s C S P) (F0 m 34 ls [va_rf u0]) := by
  have hx := X.1
  have hb := X.2.1
  have hown := X.2.2.2.1
  have hts := X.2.2.2.2.1
  intro h bc bs u0 hF
  intro H locs ls cells slots hB hl hH
  unfold fc_X1_spot_34 at hF
  refine zq_astore (r := u0) (lv' := [(4, va_rf u0), (0, .ref o)]) hx hb rfl dX1_spot_34 hl (by decide) rfl (fun ls hl => ?_)
  refine zq_aload hx hb dX1_spot_36 (lv_at hl 0 rfl) ?_
  obtain ⟨b1, eb1, hF⟩ := hF
  refine zq_st (st2 := [.ref b1]) (by rw [eb1]; first | done | rfl) ?_
  obtain ⟨hc, hF⟩ := hF
  refine zc_getf X hH hc 0 400 ("ChurchyardBook$Refused", "answer", "I", true) (by decide +kernel) (v := .int (zi h 400 b1)) rfl q329 (Or.inl rfl) dX1_spot_38 ?_
  exact zc_iret X hH hB rfl rfl ⟨_, rfl, hF⟩ dX1_spot_41
set_option maxHeartbeats 4000000 in
set_option maxRecDepth 100000 in
theorem wc_X1_spot {l : Launch} {D : va_G} {cA : Nat → ClassId} {P : Nat → Prop} {G : Nat × Nat × Nat} {o : Nat} {Q : Int32 → ZH → Prop} {h : ZH} {C S : Nat} {v1 : Int32} {v2 : Int32} {v3 : Int32} (hl9 : l.stackTraces = false) (hF : fc_X1_spot G o Q h C S v1 v2 v3) :
    zc_M l yX1_spot (wsW_ yX1_spot cX1_spot 5 (some .int) [(0, 33, 34, 63)]) 5 D cA P G [.ref o, .int v1, .int v2, .int v3] h C S (fun v h' => ∃ z : Int32, v = some (.int z) ∧ Q z h') zc_no := by
  refine zc_ofH [(0, 33, 34, 63)] hl9 rfl (by decide +kernel) (Nat.le_of_ble_eq_true rfl) ?_
  intro p e s m args below meth c H locs ls X hN hT hH hl
  have hx := X.1
  have hb := X.2.1
  have hown := X.2.2.2.1
  have hts := X.2.2.2.2.1
  have hl : lv_has ls 5 [(0, .ref o), (1, .int v1), (2, .int v2), (3, .int v3)] := hl
  have hB : 0 + C ≤ C ∧ 0 + S ≤ S := ⟨by omega, by omega⟩
  unfold fc_X1_spot at hF
  refine lv_aload_n hx hb dX1_spot_0 rfl (lv_at hl 0 rfl) ?_
  obtain ⟨hc, hF⟩ := hF
  refine zc_getf X hH hc 2 102 ("ChurchyardBook", "book", "LChurchyardBook$Book;", false) (by decide +kernel) (v := va_rf (zr h 102 o)) rfl q216 (Or.inl rfl) dX1_spot_1 ?_
  refine lv_aload_n hx hb dX1_spot_4 rfl (lv_at hl 0 rfl) ?_
  obtain ⟨hc, hF⟩ := hF
  refine zc_getf X hH hc 2 102 ("ChurchyardBook", "book", "LChurchyardBook$Book;", false) (by decide +kernel) (v := va_rf (zr h 102 o)) rfl q216 (Or.inl rfl) dX1_spot_5 ?_
  refine lv_iload_n hx hb dX1_spot_8 rfl (lv_at hl 1 rfl) ?_
  refine lv_iload_n hx hb dX1_spot_9 rfl (lv_at hl 2 rfl) ?_
  obtain ⟨b1, eb1, hF⟩ := hF
  refine zq_st (st2 := [.int v2, .int v1, .ref b1, va_rf (zr h 102 o)]) (by rw [eb1]; first | done | rfl) ?_
  obtain ⟨hc, hF⟩ := hF
  obtain ⟨c2, s3, hc1, hs1, hF⟩ := hF
  refine zc_call (c1 := c2) (s1 := s3) (rest := [va_rf (zr h 102 o)]) hH hB hc1 hs1 (fun hf => zc_rVW X hH hc (by decide) rfl (As := [.int v1, .int v2]) (wc_X5_row X.2.2.2.2.2.2.2.1 hF) (lw_VW q1615 q506 q507 q91 q508) ⟨rfl, by decide, by decide, rfl⟩ ⟨Nat.le_of_ble_eq_true rfl, Nat.le_of_ble_eq_true rfl, Nat.le_of_ble_eq_true rfl⟩ rfl hl.1 (st0 := [.int v2, .int v1, .ref b1, va_rf (zr h 102 o)]) rfl (by simp only [List.map_cons, List.map_nil, List.sum_cons, List.sum_nil, zc_k1]; exact Nat.le_of_ble_eq_true rfl) dX1_spot_10 hf) (fun E9 ce9 q5 h6 H locs hx9 hH hB hce hcv hcl => ?_) (fun v9 h9 H locs hv9 hH hB => ?_)
  · obtain ⟨rfl, hF⟩ := hx9
    refine zc_catch X hT (by decide) (by decide) (nm := "ChurchyardBook$Refused") q258 (by decide +kernel) hce hcv hcl ?_
    exact wc_X1_spot_34 X hN hT h6 (C - c2) (S - s3) (some q5) hF _ _ _ _ _ hB (lv_sub hl [0] rfl) hH
  obtain ⟨r4, rfl, hF, rfl⟩ := hv9
  refine lv_iload_n hx hb dX1_spot_13 rfl (lv_at hl 3 rfl) ?_
  refine zq_st (st2 := [.int v3, va_rf r4, .ref b1]) (by rw [eb1]; first | done | rfl) ?_
  obtain ⟨hc, hF⟩ := hF
  obtain ⟨c7, s8, hc1, hs1, hF⟩ := hF
  refine zc_call (c1 := c7) (s1 := s8) (rest := []) hH hB hc1 hs1 (fun hf => zc_rVW X hH hc (by decide) rfl (As := [va_rf r4, .int v3]) (wc_X5_at X.2.2.2.2.2.2.2.1 hF) (lw_VW q1616 q537 q538 q91 q539) ⟨rfl, by decide, by decide, rfl⟩ ⟨Nat.le_of_ble_eq_true rfl, Nat.le_of_ble_eq_true rfl, Nat.le_of_ble_eq_true rfl⟩ rfl hl.1 (st0 := [.int v3, va_rf r4, .ref b1]) rfl (Nat.le_of_ble_eq_true rfl) dX1_spot_14 hf) (fun E9 ce9 q10 h11 H locs hx9 hH hB hce hcv hcl => ?_) (fun v9 h9 H locs hv9 hH hB => ?_)
  · obtain ⟨rfl, hF⟩ := hx9
    refine zc_catch X hT (by decide) (by decide) (nm := "ChurchyardBook$Refused") q258 (by decide +kernel) hce hcv hcl ?_
    exact wc_X1_spot_34 X hN hT h11 ((C - c2) - c7) ((S - s3) - s8) (some q10) hF _ _ _ _ _ hB (lv_sub hl [0] rfl) hH
  obtain ⟨r9, rfl, hF, rfl⟩ := hv9
  refine zq_astore (r := r9) (lv' := [(4, va_rf r9), (0, .ref o), (1, .int v1), (2, .int v2), (3, .int v3)]) hx hb rfl dX1_spot_17 hl (by decide) rfl (fun ls hl => ?_)
  refine zq_aload hx hb dX1_spot_19 (lv_at hl 0 rfl) ?_
  refine zq_ifnonnull (tgt := 28) hx hb dX1_spot_21 (by decide) (fun b12 eb12 => ?_) (fun cd => ?_)
  · have hF := hF.2 b12 eb12
    refine zq_aload hx hb dX1_spot_28 (lv_at hl 0 rfl) ?_
    refine zq_st (st2 := [.ref b12]) (by rw [eb12]; first | done | rfl) ?_
    refine zc_call (c1 := 0) (s1 := 0) (rest := []) hH hB (Nat.zero_le _) (Nat.zero_le _) (fun hf => rv_what_32 X hH q1617 hF ⟨Nat.le_of_ble_eq_true rfl, Nat.le_of_ble_eq_true rfl, Nat.le_of_ble_eq_true rfl⟩ hl.1 (st0 := [.ref b12]) rfl (Nat.le_of_ble_eq_true rfl) dX1_spot_30 hf) (fun E9 ce9 q9 h9 H locs hx9 => False.elim hx9) (fun v9 h9 H locs hv9 hH hB => ?_)
    obtain ⟨z13, rfl, hF, rfl⟩ := hv9
    exact zc_iret X hH hB rfl rfl ⟨_, rfl, hF⟩ dX1_spot_33
  · have hF := hF.1 cd
    refine lv_iconst (v := 0) hx hb dX1_spot_24 (by decide) ?_
    refine lv_goto (tgt := 33) hx hb dX1_spot_25 (by decide) ?_
    exact zc_iret X hH hB rfl rfl ⟨_, rfl, hF⟩ dX1_spot_33
set_option maxHeartbeats 4000000 in
set_option maxRecDepth 100000 in
theorem wc_X1_numberOf {l : Launch} {D : va_G} {cA : Nat → ClassId} {P : Nat → Prop} {G : Nat × Nat × Nat} {Q : Int32 → Prop} {h : ZH} {C S : Nat} {q0 : Option Nat} (hl9 : l.stackTraces = false) (hF : fc_X1_numberOf G Q h q0) :
    zc_M l yX1_numberOf (ws_ yX1_numberOf cX1_numberOf 1 (some .int)) 1 D cA P G [va_rf q0] h C S (fun v h' => ∃ z : Int32, v = some (.int z) ∧ Q z ∧ h = h') zc_no := by
  refine zc_ofF hl9 rfl (by decide +kernel) (zc_slle (by simp [zc_k1, zc_kI, zc_kR]) (Nat.le_of_ble_eq_true rfl)) ?_
  intro p e s m args below meth c H locs ls X hN hT hH hl
  have hx := X.1
  have hb := X.2.1
  have hown := X.2.2.2.1
  have hts := X.2.2.2.2.1
  have hl : lv_has ls 1 [(0, va_rf q0)] := by
    have h9 := hl
    rw [zc_ags _ (by simp [zc_k1, zc_kI, zc_kR]) 0] at h9
    exact h9
  have hB : 0 + 0 ≤ C ∧ 0 + 0 ≤ S := ⟨by omega, by omega⟩
  have eh : h = h := rfl
  unfold fc_X1_numberOf at hF
  refine zq_aload_n hx hb dX1_numberOf_0 rfl (lv_at hl 0 rfl) ?_
  refine zq_ifnonnull (tgt := 8) hx hb dX1_numberOf_1 (by decide) (fun b1 eb1 => ?_) (fun cd => ?_)
  · have hF := hF.2 b1 eb1
    refine zq_aload_n hx hb dX1_numberOf_8 rfl (lv_at hl 0 rfl) ?_
    refine zq_st (st2 := [.ref b1]) (by rw [eb1]; first | done | rfl) ?_
    obtain ⟨hc, hF⟩ := hF
    refine zc_getf X hH hc 0 700 ("ChurchyardBook$Person", "number", "I", true) (by decide +kernel) (v := .int (zi h 700 b1)) rfl q864 (Or.inl rfl) dX1_numberOf_9 ?_
    exact zc_iret X hH hB rfl rfl ⟨_, rfl, hF, eh⟩ dX1_numberOf_12
  · have hF := hF.1 cd
    refine lv_iconst (v := (-1)) hx hb dX1_numberOf_4 (by decide) ?_
    refine lv_goto (tgt := 12) hx hb dX1_numberOf_5 (by decide) ?_
    exact zc_iret X hH hB rfl rfl ⟨_, rfl, hF, eh⟩ dX1_numberOf_12
set_option maxHeartbeats 4000000 in
set_option maxRecDepth 100000 in
theorem wc_X9_greatestEnd_4 {p : Program} {l : Launch} {e : Env} {s : State} {m : MethodId} {args : Array Value} {below : List Frame} {meth : Method} {c : Code} {D : va_G} {cA : Nat → ClassId} {P : Nat → Prop} {G : Nat × Nat × Nat} {C S : Nat} {o : Nat} {Q : Int32 → Prop} {h0 : ZH} (X : zc_Cx p l s m args meth c cX9_greatestEnd 3 (some .int) "ChurchyardBook$Grave" D cA P G) (hN : meth.name = "greatestEnd") (hT : c.exceptionTable.toList = tableOf []) :
    ∀ (n : Nat) (h : ZH) (v1 : Int32) (v2 : Int32), fc_X9_greatestEnd_4 G o Q n h v1 v2 → ∀ (H : Heap) (locs : List Loc) (ls : Array Slot) (cells slots : Nat), cells + 0 ≤ C ∧ slots + 0 ≤ S → h0 = h → lv_has ls 3 [(0, .ref o), (1, .int v1), (2, .int v2)] → zc_H D cA P h s H locs → W p l e (zc_Ro 4 C S) s m args below meth c H locs cells slots (vx_MQ below (zc_Q D cA P (fun v h' => ∃ z : Int32, v = some (.int z) ∧ Q z ∧ h0 = h')) (zc_X D cA P zc_no) args s C S P) (F0 m 4 ls []) := by
  have hx := X.1
  have hb := X.2.1
  have hown := X.2.2.2.1
  have hts := X.2.2.2.2.1
  intro n
  induction n with
  | zero =>
    intro h v1 v2 hF
    exact False.elim hF
  | succ n ih =>
    intro h v1 v2 hF
    intro H locs ls cells slots hB eh hl hH
    unfold fc_X9_greatestEnd_4 at hF
    refine lv_iload_n hx hb dX9_greatestEnd_4 rfl (lv_at hl 2 rfl) ?_
    refine lv_aload_n hx hb dX9_greatestEnd_5 rfl (lv_at hl 0 rfl) ?_
    obtain ⟨hc, hF⟩ := hF
    refine zc_getf X hH hc 15 615 ("ChurchyardBook$Grave", "lying", "Ljava/util/ArrayList;", true) (by decide +kernel) (v := va_rf (zr h 615 o)) rfl q695 (Or.inl rfl) dX9_greatestEnd_6 ?_
    obtain ⟨b1, eb1, hF⟩ := hF
    refine zq_st (st2 := [.ref b1, .int v2]) (by rw [eb1]; first | done | rfl) ?_
    obtain ⟨hc, hF⟩ := hF
    refine zc_call (c1 := 0) (s1 := 0) (rest := [.int v2]) hH hB (Nat.zero_le _) (Nat.zero_le _) (fun hf => zc_rV X hH hc (by decide) rfl (As := []) (wc_J2_size X.2.2.2.2.2.2.2.1 hF) (lw_V q1088 q350 q351 q94 q352) ⟨rfl, by decide, by decide, rfl⟩ ⟨Nat.le_of_ble_eq_true rfl, Nat.le_of_ble_eq_true rfl, Nat.le_of_ble_eq_true rfl⟩ rfl hl.1 (st0 := [.ref b1, .int v2]) rfl (Nat.le_of_ble_eq_true rfl) dX9_greatestEnd_9 hf) (fun E9 ce9 q9 h9 H locs hx9 => False.elim hx9) (fun v9 h9 H locs hv9 hH hB => ?_)
    obtain ⟨z2, rfl, hF, rfl⟩ := hv9
    refine lv_icmp_ge (tgt := 40) hx hb dX9_greatestEnd_12 (by decide) (fun cd => ?_) (fun cd => ?_)
    · have hF := hF.1 cd
      refine lv_iload_n hx hb dX9_greatestEnd_40 rfl (lv_at hl 1 rfl) ?_
      exact zc_iret X hH hB rfl rfl ⟨_, rfl, hF, eh⟩ dX9_greatestEnd_41
    · have hF := hF.2 cd
      refine lv_iload_n hx hb dX9_greatestEnd_15 rfl (lv_at hl 1 rfl) ?_
      refine lv_aload_n hx hb dX9_greatestEnd_16 rfl (lv_at hl 0 rfl) ?_
      obtain ⟨hc, hF⟩ := hF
      refine zc_getf X hH hc 15 615 ("ChurchyardBook$Grave", "lying", "Ljava/util/ArrayList;", true) (by decide +kernel) (v := va_rf (zr h 615 o)) rfl q695 (Or.inl rfl) dX9_greatestEnd_17 ?_
      refine lv_iload_n hx hb dX9_greatestEnd_20 rfl (lv_at hl 2 rfl) ?_
      refine zq_st (st2 := [.int v2, .ref b1, .int v1]) (by rw [eb1]; first | done | rfl) ?_
      obtain ⟨hc, hF⟩ := hF
      refine zc_call (c1 := 0) (s1 := 0) (rest := [.int v1]) hH hB (Nat.zero_le _) (Nat.zero_le _) (fun hf => zc_rV X hH hc (by decide) rfl (As := [.int v2]) (wc_J2_get X.2.2.2.2.2.2.2.1 hF) (lw_V q1089 q476 q477 q94 q478) ⟨rfl, by decide, by decide, rfl⟩ ⟨Nat.le_of_ble_eq_true rfl, Nat.le_of_ble_eq_true rfl, Nat.le_of_ble_eq_true rfl⟩ rfl hl.1 (st0 := [.int v2, .ref b1, .int v1]) rfl (Nat.le_of_ble_eq_true rfl) dX9_greatestEnd_21 hf) (fun E9 ce9 q9 h9 H locs hx9 => False.elim hx9) (fun v9 h9 H locs hv9 hH hB => ?_)
      obtain ⟨r3, rfl, hF, rfl⟩ := hv9
      obtain ⟨hR, hF⟩ := hF
      refine zc_castY X hH (r := r3) [14] "ChurchyardBook$Person" hR (by decide) (by decide +kernel) q1090 dX9_greatestEnd_24 ?_
      obtain ⟨b4, eb4, hF⟩ := hF
      refine zq_st (st2 := [.ref b4, .int v1]) (by rw [eb4]; first | done | rfl) ?_
      obtain ⟨hc, hF⟩ := hF
      refine zc_getf X hH hc 9 709 ("ChurchyardBook$Person", "end", "I", false) (by decide +kernel) (v := .int (zi h 709 b4)) rfl q888 (Or.inl rfl) dX9_greatestEnd_27 ?_
      refine zc_call (c1 := 0) (s1 := 0) (rest := []) hH hB (Nat.zero_le _) (Nat.zero_le _) (fun hf => zc_rS X hH (As := [.int v1, .int (zi h 709 b4)]) (wc_J6_max X.2.2.2.2.2.2.2.1 hF) (lw_S q1699 q396 q101 q397) ⟨by decide, by decide, rfl⟩ ⟨Nat.le_of_ble_eq_true rfl, Nat.le_of_ble_eq_true rfl, Nat.le_of_ble_eq_true rfl⟩ rfl hl.1 (st0 := [.int (zi h 709 b4), .int v1]) rfl (Nat.le_of_ble_eq_true rfl) dX9_greatestEnd_30 hf) (fun E9 ce9 q9 h9 H locs hx9 => False.elim hx9) (fun v9 h9 H locs hv9 hH hB => ?_)
      obtain ⟨z5, rfl, hF, rfl⟩ := hv9
      refine lv_istore_n (lv' := [(1, .int z5), (0, .ref o), (2, .int v2)]) hx hb dX9_greatestEnd_33 rfl hl (by decide) rfl (fun ls hl => ?_)
      obtain ⟨x6, ex6⟩ : ∃ z : Int32, z = v2 + 1 := ⟨_, rfl⟩
      have hF := hF x6 ex6
      refine lv_iinc (v := x6) (lv' := [(2, .int x6), (1, .int z5), (0, .ref o)]) hx hb dX9_greatestEnd_34 hl (k := 2) rfl (by rw [ex6]; rfl) (by decide) rfl (fun ls hl => ?_)
      refine lv_goto (tgt := 4) hx hb dX9_greatestEnd_37 (by decide) ?_
      exact ih h z5 x6 hF _ _ _ _ _ hB eh (lv_sub hl [2, 1, 0] rfl) hH
set_option maxHeartbeats 4000000 in
set_option maxRecDepth 100000 in
theorem wc_X9_greatestEnd {l : Launch} {D : va_G} {cA : Nat → ClassId} {P : Nat → Prop} {G : Nat × Nat × Nat} {o : Nat} {Q : Int32 → Prop} {h : ZH} {C S : Nat} (hl9 : l.stackTraces = false) (hF : fc_X9_greatestEnd G o Q h) :
    zc_M l yX9_greatestEnd (ws_ yX9_greatestEnd cX9_greatestEnd 3 (some .int)) 4 D cA P G [.ref o] h C S (fun v h' => ∃ z : Int32, v = some (.int z) ∧ Q z ∧ h = h') zc_no := by
  refine zc_ofF hl9 rfl (by decide +kernel) (Nat.le_of_ble_eq_true rfl) ?_
  intro p e s m args below meth c H locs ls X hN hT hH hl
  have hx := X.1
  have hb := X.2.1
  have hown := X.2.2.2.1
  have hts := X.2.2.2.2.1
  have hl : lv_has ls 3 [(0, .ref o)] := hl
  have hB : 0 + 0 ≤ C ∧ 0 + 0 ≤ S := ⟨by omega, by omega⟩
  have eh : h = h := rfl
  unfold fc_X9_greatestEnd at hF
  refine lv_iconst (v := 0) hx hb dX9_greatestEnd_0 (by decide) ?_
  refine lv_istore_n (lv' := [(1, .int 0), (0, .ref o)]) hx hb dX9_greatestEnd_1 rfl hl (by decide) rfl (fun ls hl => ?_)
  refine lv_iconst (v := 0) hx hb dX9_greatestEnd_2 (by decide) ?_
  refine lv_istore_n (lv' := [(2, .int 0), (1, .int 0), (0, .ref o)]) hx hb dX9_greatestEnd_3 rfl hl (by decide) rfl (fun ls hl => ?_)
  obtain ⟨n9, hF⟩ := hF
  exact wc_X9_greatestEnd_4 X hN hT n9 h 0 0 hF _ _ _ _ _ hB eh (lv_sub hl [2, 1, 0] rfl) hH
set_option maxHeartbeats 1000000 in
theorem rv_greatestEnd_33 {p : Program} {l : Launch} {e : Env} {R : Room} {s : State} {m : MethodId} {args : Array Value} {below : List Frame} {meth : Method} {c : Code} {H : Heap} {locs : List Loc} {cells slots : Nat} {cc : ByteArray} {nL pc : Nat} {ret : Option FieldType} {own : String} {ls : Array Slot} {rest : List Value} {D : va_G} {cA : Nat → ClassId} {P : Nat → Prop} {G : Nat × Nat × Nat} {h : ZH} {C S a idx : Nat} {Q : Int32 → Prop} (X : zc_Cx p l s m args meth c cc nL ret own D cA P G) (hH : zc_H D cA P h s H locs) (hlk : Cond.methodLink own idx ⟨"ChurchyardBook$Grave", "greatestEnd", "()I"⟩ ∈ lw_all) (hF : fv_greatestEnd_33 G a Q h) (hR : zc_rm R 4 11) (hsize : ls.size = nL) {st0 : List Value} (hst : st0 = ([] : List Value).reverse ++ .ref a :: rest) (hcat : (rest.map fun v => v.category).sum ≤ 8) (hdg : decode cc pc = .ok (.invokevirtual idx, 3)) (hf : cells + C ≤ R.cells ∧ slots + S ≤ R.slots) :
    vx_Run p l e R s m args below meth c H locs cells slots C S (F0 m pc ls st0) rest (zc_Q D cA P (fun v h' => ∃ z : Int32, v = some (.int z) ∧ Q z ∧ h = h') (Value.ref a :: []).toArray) (zc_X D cA P zc_no) P := by
  unfold fv_greatestEnd_33 at hF
  have hR9 := hR
  obtain ⟨hc, hF⟩ := hF
  simp only [List.mem_cons, List.not_mem_nil, or_false] at hc
  rcases hc with hc | hc | hc | hc | hc | hc
  · have hF := hF (by rw [hc]; decide)
    exact zc_rU X hH hc (by decide) rfl (owner := "ChurchyardBook$Grave") (x := ⟨"ChurchyardBook$Grave", "greatestEnd", "()I"⟩) (As := []) (wc_X9_greatestEnd X.2.2.2.2.2.2.2.1 hF) (lw_meth q1698) (X.2.2.2.2.1 _ hlk) (X.2.2.2.2.1 _ q1691) (zc_declC X q1690 q1698) (X.2.2.2.2.1 _ q1696) q1690 q114 ⟨by decide, by decide, rfl⟩ (zc_rm_le hR9 (by decide) (by decide)) rfl hsize hst hcat hdg hf
  · have hF := hF (by rw [hc]; decide)
    exact zc_rU X hH hc (by decide) rfl (owner := "ChurchyardBook$Grave") (x := ⟨"ChurchyardBook$Grave", "greatestEnd", "()I"⟩) (As := []) (wc_X9_greatestEnd X.2.2.2.2.2.2.2.1 hF) (lw_meth q1698) (X.2.2.2.2.1 _ hlk) (X.2.2.2.2.1 _ q1691) (zc_declC X q1690 q1698) (X.2.2.2.2.1 _ q1693) q1690 q114 ⟨by decide, by decide, rfl⟩ (zc_rm_le hR9 (by decide) (by decide)) rfl hsize hst hcat hdg hf
  · have hF := hF (by rw [hc]; decide)
    exact zc_rU X hH hc (by decide) rfl (owner := "ChurchyardBook$Grave") (x := ⟨"ChurchyardBook$Grave", "greatestEnd", "()I"⟩) (As := []) (wc_X9_greatestEnd X.2.2.2.2.2.2.2.1 hF) (lw_meth q1698) (X.2.2.2.2.1 _ hlk) (X.2.2.2.2.1 _ q1691) (zc_declC X q1690 q1698) (X.2.2.2.2.1 _ q1694) q1690 q114 ⟨by decide, by decide, rfl⟩ (zc_rm_le hR9 (by decide) (by decide)) rfl hsize hst hcat hdg hf
  · have hF := hF (by rw [hc]; decide)
    exact zc_rU X hH hc (by decide) rfl (owner := "ChurchyardBook$Grave") (x := ⟨"ChurchyardBook$Grave", "greatestEnd", "()I"⟩) (As := []) (wc_X9_greatestEnd X.2.2.2.2.2.2.2.1 hF) (lw_meth q1698) (X.2.2.2.2.1 _ hlk) (X.2.2.2.2.1 _ q1691) (zc_declC X q1690 q1698) (X.2.2.2.2.1 _ q1697) q1690 q114 ⟨by decide, by decide, rfl⟩ (zc_rm_le hR9 (by decide) (by decide)) rfl hsize hst hcat hdg hf
  · have hF := hF (by rw [hc]; decide)
    exact zc_rU X hH hc (by decide) rfl (owner := "ChurchyardBook$Grave") (x := ⟨"ChurchyardBook$Grave", "greatestEnd", "()I"⟩) (As := []) (wc_X9_greatestEnd X.2.2.2.2.2.2.2.1 hF) (lw_meth q1698) (X.2.2.2.2.1 _ hlk) (X.2.2.2.2.1 _ q1691) (zc_declC X q1690 q1698) (X.2.2.2.2.1 _ q1695) q1690 q114 ⟨by decide, by decide, rfl⟩ (zc_rm_le hR9 (by decide) (by decide)) rfl hsize hst hcat hdg hf
  · have hF := hF (by rw [hc]; decide)
    exact zc_rU X hH hc (by decide) rfl (owner := "ChurchyardBook$Grave") (x := ⟨"ChurchyardBook$Grave", "greatestEnd", "()I"⟩) (As := []) (wc_X9_greatestEnd X.2.2.2.2.2.2.2.1 hF) (lw_meth q1698) (X.2.2.2.2.1 _ hlk) (X.2.2.2.2.1 _ q1691) (zc_declC X q1690 q1698) (X.2.2.2.2.1 _ q1692) q1690 q114 ⟨by decide, by decide, rfl⟩ (zc_rm_le hR9 (by decide) (by decide)) rfl hsize hst hcat hdg hf
set_option maxHeartbeats 4000000 in
set_option maxRecDepth 100000 in
theorem wc_X1_look_122 {p : Program} {l : Launch} {e : Env} {s : State} {m : MethodId} {args : Array Value} {below : List Frame} {meth : Method} {c : Code} {D : va_G} {cA : Nat → ClassId} {P : Nat → Prop} {G : Nat × Nat × Nat} {C S : Nat} {o : Nat} {Q : Int32 → Prop} {XE : String → Nat → ZH → Prop} {h0 : ZH} (X : zc_Cx p l s m args meth c cX1_look 4 (some .int) "ChurchyardBook" D cA P G) (hN : meth.name = "look") (hT : c.exceptionTable.toList = tableOf []) :
    ∀ (h : ZH) (bc bs : Nat) (q3 : Option Nat), fc_X1_look_122 G o Q XE h bc bs q3 → ∀ (H : Heap) (locs : List Loc) (ls : Array Slot) (cells slots : Nat), cells + bc ≤ C ∧ slots + bs ≤ S → h0 = h → lv_has ls 4 [(0, .ref o), (3, va_rf q3)] → zc_H D cA P h s H locs → W p l e (zc_Ro 5 C S) s m args below meth c H locs cells slots (vx_MQ below (zc_Q D cA P (fun v h' => ∃ z : Int32, v = some (.int z) ∧ Q z ∧ h0 = h')) (zc_X D cA P XE) args s C S P) (F0 m 122 ls []) := by
  have hx := X.1
  have hb := X.2.1
  have hown := X.2.2.2.1
  have hts := X.2.2.2.2.1
  intro h bc bs q3 hF
  intro H locs ls cells slots hB eh hl hH
  unfold fc_X1_look_122 at hF
  refine zq_aload_n hx hb dX1_look_122 rfl (lv_at hl 1 rfl) ?_
  obtain ⟨b1, eb1, hF⟩ := hF
  refine zq_st (st2 := [.ref b1]) (by rw [eb1]; first | done | rfl) ?_
  obtain ⟨hc, hF⟩ := hF
  refine zc_getf X hH hc 8 608 ("ChurchyardBook$Grave", "to", "I", false) (by decide +kernel) (v := .int (zi h 608 b1)) rfl q679 (Or.inl rfl) dX1_look_123 ?_
  refine lv_goto (tgt := 130) hx hb dX1_look_126 (by decide) ?_
  exact zc_iret X hH hB rfl rfl ⟨_, rfl, hF, eh⟩ dX1_look_130
set_option maxHeartbeats 4000000 in
set_option maxRecDepth 100000 in
theorem wc_X1_look_23 {p : Program} {l : Launch} {e : Env} {s : State} {m : MethodId} {args : Array Value} {below : List Frame} {meth : Method} {c : Code} {D : va_G} {cA : Nat → ClassId} {P : Nat → Prop} {G : Nat × Nat × Nat} {C S : Nat} {o : Nat} {Q : Int32 → Prop} {XE : String → Nat → ZH → Prop} {h0 : ZH} (X : zc_Cx p l s m args meth c cX1_look 4 (some .int) "ChurchyardBook" D cA P G) (hN : meth.name = "look") (hT : c.exceptionTable.toList = tableOf []) :
    ∀ (h : ZH) (bc bs : Nat), fc_X1_look_23 G o Q XE h bc bs → ∀ (H : Heap) (locs : List Loc) (ls : Array Slot) (cells slots : Nat), cells + bc ≤ C ∧ slots + bs ≤ S → h0 = h → lv_has ls 4 [(0, .ref o)] → zc_H D cA P h s H locs → W p l e (zc_Ro 5 C S) s m args below meth c H locs cells slots (vx_MQ below (zc_Q D cA P (fun v h' => ∃ z : Int32, v = some (.int z) ∧ Q z ∧ h0 = h')) (zc_X D cA P XE) args s C S P) (F0 m 23 ls []) := by
  have hx := X.1
  have hb := X.2.1
  have hown := X.2.2.2.1
  have hts := X.2.2.2.2.1
  intro h bc bs hF
  intro H locs ls cells slots hB eh hl hH
  unfold fc_X1_look_23 at hF
  obtain ⟨hc1, hF⟩ := hF
  obtain ⟨hs1, hF⟩ := hF
  exact zx_nsee X hH hB hT hc1 hs1 hl.1 (Nat.le_of_ble_eq_true rfl) q1673 q123 hF dX1_look_23 dX1_look_26 dX1_look_27 dX1_look_30
set_option maxHeartbeats 4000000 in
set_option maxRecDepth 100000 in
theorem wc_X1_look {l : Launch} {D : va_G} {cA : Nat → ClassId} {P : Nat → Prop} {G : Nat × Nat × Nat} {o : Nat} {Q : Int32 → Prop} {XE : String → Nat → ZH → Prop} {h : ZH} {C S : Nat} {v1 : Int32} {v2 : Int32} (hl9 : l.stackTraces = false) (hF : fc_X1_look G o Q XE h C S v1 v2) :
    zc_M l yX1_look (ws_ yX1_look cX1_look 4 (some .int)) 5 D cA P G [.ref o, .int v1, .int v2] h C S (fun v h' => ∃ z : Int32, v = some (.int z) ∧ Q z ∧ h = h') XE := by
  refine zc_ofF hl9 rfl (by decide +kernel) (Nat.le_of_ble_eq_true rfl) ?_
  intro p e s m args below meth c H locs ls X hN hT hH hl
  have hx := X.1
  have hb := X.2.1
  have hown := X.2.2.2.1
  have hts := X.2.2.2.2.1
  have hl : lv_has ls 4 [(0, .ref o), (1, .int v1), (2, .int v2)] := hl
  have hB : 0 + C ≤ C ∧ 0 + S ≤ S := ⟨by omega, by omega⟩
  have eh : h = h := rfl
  unfold fc_X1_look at hF
  refine lv_aload_n hx hb dX1_look_0 rfl (lv_at hl 0 rfl) ?_
  obtain ⟨hc, hF⟩ := hF
  refine zc_getf X hH hc 2 102 ("ChurchyardBook", "book", "LChurchyardBook$Book;", false) (by decide +kernel) (v := va_rf (zr h 102 o)) rfl q216 (Or.inl rfl) dX1_look_1 ?_
  refine lv_iload_n hx hb dX1_look_4 rfl (lv_at hl 1 rfl) ?_
  obtain ⟨b1, eb1, hF⟩ := hF
  refine zq_st (st2 := [.int v1, .ref b1]) (by rw [eb1]; first | done | rfl) ?_
  obtain ⟨hc, hF⟩ := hF
  refine zc_call (c1 := 0) (s1 := 0) (rest := []) hH hB (Nat.zero_le _) (Nat.zero_le _) (fun hf => zc_rV X hH hc (by decide) rfl (As := [.int v1]) (wc_X5_grave X.2.2.2.2.2.2.2.1 hF) (lw_V q1530 q954 q955 q91 q956) ⟨rfl, by decide, by decide, rfl⟩ ⟨Nat.le_of_ble_eq_true rfl, Nat.le_of_ble_eq_true rfl, Nat.le_of_ble_eq_true rfl⟩ rfl hl.1 (st0 := [.int v1, .ref b1]) rfl (Nat.le_of_ble_eq_true rfl) dX1_look_5 hf) (fun E9 ce9 q9 h9 H locs hx9 => False.elim hx9) (fun v9 h9 H locs hv9 hH hB => ?_)
  obtain ⟨r2, rfl, hF, rfl⟩ := hv9
  refine zq_astore_n (r := r2) (lv' := [(3, va_rf r2), (0, .ref o), (1, .int v1), (2, .int v2)]) hx hb rfl dX1_look_8 rfl hl (by decide) rfl (fun ls hl => ?_)
  refine zq_aload_n hx hb dX1_look_9 rfl (lv_at hl 0 rfl) ?_
  refine zq_ifnull (tgt := 23) hx hb dX1_look_10 (by decide) (fun cd => ?_) (fun b3 eb3 => ?_)
  · have hF := hF.1 cd
    exact wc_X1_look_23 X hN hT h C S hF _ _ _ _ _ hB eh (lv_sub hl [1] rfl) hH
  · have hF := hF.2 b3 eb3
    refine lv_iload_n hx hb dX1_look_13 rfl (lv_at hl 3 rfl) ?_
    refine lv_if_lt (tgt := 23) hx hb dX1_look_14 (by decide) (fun cd => ?_) (fun cd => ?_)
    · have hF := hF.1 cd
      exact wc_X1_look_23 X hN hT h C S hF _ _ _ _ _ hB eh (lv_sub hl [1] rfl) hH
    · have hF := hF.2 cd
      refine lv_iload_n hx hb dX1_look_17 rfl (lv_at hl 3 rfl) ?_
      refine lv_bipush (v := 10) hx hb dX1_look_18 (by decide) ?_
      refine lv_icmp_le (tgt := 31) hx hb dX1_look_20 (by decide) (fun cd => ?_) (fun cd => ?_)
      · have hF := hF.1 cd
        refine lv_iload_n hx hb dX1_look_31 rfl (lv_at hl 3 rfl) ?_
        by_cases hsw : v2.toInt < 0 ∨ 9 < v2.toInt
        · have hF := hF.1 hsw
          refine lv_tableOut (tgt := 179) hx hb dX1_look_32 hsw (by decide) ?_
          refine zq_aload_n hx hb dX1_look_179 rfl (lv_at hl 0 rfl) ?_
          refine zq_st (st2 := [.ref b3]) (by rw [eb3]; first | done | rfl) ?_
          refine zc_call (c1 := 0) (s1 := 0) (rest := []) hH hB (Nat.zero_le _) (Nat.zero_le _) (fun hf => rv_greatestEnd_33 X hH q1689 hF ⟨Nat.le_of_ble_eq_true rfl, Nat.le_of_ble_eq_true rfl, Nat.le_of_ble_eq_true rfl⟩ hl.1 (st0 := [.ref b3]) rfl (Nat.le_of_ble_eq_true rfl) dX1_look_180 hf) (fun E9 ce9 q9 h9 H locs hx9 => False.elim hx9) (fun v9 h9 H locs hv9 hH hB => ?_)
          obtain ⟨z4, rfl, hF, rfl⟩ := hv9
          exact zc_iret X hH hB rfl rfl ⟨_, rfl, hF, eh⟩ dX1_look_183
        · have hF := hF.2
          have hsw2 : v2.toInt = 0 ∨ v2.toInt = 1 ∨ v2.toInt = 2 ∨ v2.toInt = 3 ∨ v2.toInt = 4 ∨ v2.toInt = 5 ∨ v2.toInt = 6 ∨ v2.toInt = 7 ∨ v2.toInt = 8 ∨ v2.toInt = 9 := by omega
          rcases hsw2 with hk | hk | hk | hk | hk | hk | hk | hk | hk | hk
          · have hF := hF.1 hk
            refine lv_tableIn (tgt := 88) hx hb dX1_look_32 (by rw [hk]; decide) (by rw [hk]; decide) (by rw [hk]; rfl) (by decide) ?_
            refine zq_aload_n hx hb dX1_look_88 rfl (lv_at hl 0 rfl) ?_
            refine zq_st (st2 := [.ref b3]) (by rw [eb3]; first | done | rfl) ?_
            refine zc_call (c1 := 0) (s1 := 0) (rest := []) hH hB (Nat.zero_le _) (Nat.zero_le _) (fun hf => rv_kind_21 X hH q1688 hF ⟨Nat.le_of_ble_eq_true rfl, Nat.le_of_ble_eq_true rfl, Nat.le_of_ble_eq_true rfl⟩ hl.1 (st0 := [.ref b3]) rfl (Nat.le_of_ble_eq_true rfl) dX1_look_89 hf) (fun E9 ce9 q9 h9 H locs hx9 => False.elim hx9) (fun v9 h9 H locs hv9 hH hB => ?_)
            obtain ⟨z5, rfl, hF, rfl⟩ := hv9
            exact zc_iret X hH hB rfl rfl ⟨_, rfl, hF, eh⟩ dX1_look_92
          · have hF := hF.2.1 hk
            refine lv_tableIn (tgt := 93) hx hb dX1_look_32 (by rw [hk]; decide) (by rw [hk]; decide) (by rw [hk]; rfl) (by decide) ?_
            refine zq_aload_n hx hb dX1_look_93 rfl (lv_at hl 0 rfl) ?_
            refine zq_st (st2 := [.ref b3]) (by rw [eb3]; first | done | rfl) ?_
            obtain ⟨hc, hF⟩ := hF
            refine zc_getf X hH hc 6 606 ("ChurchyardBook$Grave", "state", "I", false) (by decide +kernel) (v := .int (zi h 606 b3)) rfl q673 (Or.inl rfl) dX1_look_94 ?_
            exact zc_iret X hH hB rfl rfl ⟨_, rfl, hF, eh⟩ dX1_look_97
          · have hF := hF.2.2.1 hk
            refine lv_tableIn (tgt := 98) hx hb dX1_look_32 (by rw [hk]; decide) (by rw [hk]; decide) (by rw [hk]; rfl) (by decide) ?_
            refine zq_aload_n hx hb dX1_look_98 rfl (lv_at hl 0 rfl) ?_
            refine zq_st (st2 := [.ref b3]) (by rw [eb3]; first | done | rfl) ?_
            obtain ⟨hc, hF⟩ := hF
            refine zc_getf X hH hc 7 607 ("ChurchyardBook$Grave", "holder", "LChurchyardBook$Person;", false) (by decide +kernel) (v := va_rf (zr h 607 b3)) rfl q676 (Or.inl rfl) dX1_look_99 ?_
            refine zc_call (c1 := 0) (s1 := 0) (rest := []) hH hB (Nat.zero_le _) (Nat.zero_le _) (fun hf => zc_rS X hH (As := [va_rf (zr h 607 b3)]) (wc_X1_numberOf X.2.2.2.2.2.2.2.1 hF) (lw_S q1640 q1641 q87 q1642) ⟨by decide, by decide, rfl⟩ ⟨Nat.le_of_ble_eq_true rfl, Nat.le_of_ble_eq_true rfl, Nat.le_of_ble_eq_true rfl⟩ rfl hl.1 (st0 := [va_rf (zr h 607 b3)]) rfl (Nat.le_of_ble_eq_true rfl) dX1_look_102 hf) (fun E9 ce9 q9 h9 H locs hx9 => False.elim hx9) (fun v9 h9 H locs hv9 hH hB => ?_)
            obtain ⟨z6, rfl, hF, rfl⟩ := hv9
            exact zc_iret X hH hB rfl rfl ⟨_, rfl, hF, eh⟩ dX1_look_105
          · have hF := hF.2.2.2.1 hk
            refine lv_tableIn (tgt := 106) hx hb dX1_look_32 (by rw [hk]; decide) (by rw [hk]; decide) (by rw [hk]; rfl) (by decide) ?_
            refine zq_aload_n hx hb dX1_look_106 rfl (lv_at hl 0 rfl) ?_
            refine zq_st (st2 := [.ref b3]) (by rw [eb3]; first | done | rfl) ?_
            obtain ⟨hc, hF⟩ := hF
            refine zc_getf X hH hc 6 606 ("ChurchyardBook$Grave", "state", "I", false) (by decide +kernel) (v := .int (zi h 606 b3)) rfl q673 (Or.inl rfl) dX1_look_107 ?_
            refine lv_iconst (v := 1) hx hb dX1_look_110 (by decide) ?_
            refine lv_icmp_eq (tgt := 122) hx hb dX1_look_111 (by decide) (fun cd => ?_) (fun cd => ?_)
            · have hF := hF.1 cd
              exact wc_X1_look_122 X hN hT h C S r2 hF _ _ _ _ _ hB eh (lv_sub hl [1, 0] rfl) hH
            · have hF := hF.2 cd
              refine zq_aload_n hx hb dX1_look_114 rfl (lv_at hl 0 rfl) ?_
              refine zq_st (st2 := [.ref b3]) (by rw [eb3]; first | done | rfl) ?_
              obtain ⟨hc, hF⟩ := hF
              refine zc_getf X hH hc 6 606 ("ChurchyardBook$Grave", "state", "I", false) (by decide +kernel) (v := .int (zi h 606 b3)) rfl q673 (Or.inl rfl) dX1_look_115 ?_
              refine lv_iconst (v := 2) hx hb dX1_look_118 (by decide) ?_
              refine lv_icmp_ne (tgt := 129) hx hb dX1_look_119 (by decide) (fun cd => ?_) (fun cd => ?_)
              · have hF := hF.1 cd
                refine lv_iconst (v := 0) hx hb dX1_look_129 (by decide) ?_
                exact zc_iret X hH hB rfl rfl ⟨_, rfl, hF, eh⟩ dX1_look_130
              · have hF := hF.2 cd
                exact wc_X1_look_122 X hN hT h C S r2 hF _ _ _ _ _ hB eh (lv_sub hl [1, 0] rfl) hH
          · have hF := hF.2.2.2.2.1 hk
            refine lv_tableIn (tgt := 131) hx hb dX1_look_32 (by rw [hk]; decide) (by rw [hk]; decide) (by rw [hk]; rfl) (by decide) ?_
            refine zq_aload_n hx hb dX1_look_131 rfl (lv_at hl 0 rfl) ?_
            refine zq_st (st2 := [.ref b3]) (by rw [eb3]; first | done | rfl) ?_
            obtain ⟨hc, hF⟩ := hF
            refine zc_getf X hH hc 9 609 ("ChurchyardBook$Grave", "offered", "LChurchyardBook$Person;", false) (by decide +kernel) (v := va_rf (zr h 609 b3)) rfl q682 (Or.inl rfl) dX1_look_132 ?_
            refine zc_call (c1 := 0) (s1 := 0) (rest := []) hH hB (Nat.zero_le _) (Nat.zero_le _) (fun hf => zc_rS X hH (As := [va_rf (zr h 609 b3)]) (wc_X1_numberOf X.2.2.2.2.2.2.2.1 hF) (lw_S q1640 q1641 q87 q1642) ⟨by decide, by decide, rfl⟩ ⟨Nat.le_of_ble_eq_true rfl, Nat.le_of_ble_eq_true rfl, Nat.le_of_ble_eq_true rfl⟩ rfl hl.1 (st0 := [va_rf (zr h 609 b3)]) rfl (Nat.le_of_ble_eq_true rfl) dX1_look_135 hf) (fun E9 ce9 q9 h9 H locs hx9 => False.elim hx9) (fun v9 h9 H locs hv9 hH hB => ?_)
            obtain ⟨z7, rfl, hF, rfl⟩ := hv9
            exact zc_iret X hH hB rfl rfl ⟨_, rfl, hF, eh⟩ dX1_look_138
          · have hF := hF.2.2.2.2.2.1 hk
            refine lv_tableIn (tgt := 139) hx hb dX1_look_32 (by rw [hk]; decide) (by rw [hk]; decide) (by rw [hk]; rfl) (by decide) ?_
            refine zq_aload_n hx hb dX1_look_139 rfl (lv_at hl 0 rfl) ?_
            refine zq_st (st2 := [.ref b3]) (by rw [eb3]; first | done | rfl) ?_
            obtain ⟨hc, hF⟩ := hF
            refine zc_getf X hH hc 6 606 ("ChurchyardBook$Grave", "state", "I", false) (by decide +kernel) (v := .int (zi h 606 b3)) rfl q673 (Or.inl rfl) dX1_look_140 ?_
            refine lv_iconst (v := 2) hx hb dX1_look_143 (by decide) ?_
            refine lv_icmp_ne (tgt := 154) hx hb dX1_look_144 (by decide) (fun cd => ?_) (fun cd => ?_)
            · have hF := hF.1 cd
              refine lv_iconst (v := 0) hx hb dX1_look_154 (by decide) ?_
              exact zc_iret X hH hB rfl rfl ⟨_, rfl, hF, eh⟩ dX1_look_155
            · have hF := hF.2 cd
              refine zq_aload_n hx hb dX1_look_147 rfl (lv_at hl 0 rfl) ?_
              refine zq_st (st2 := [.ref b3]) (by rw [eb3]; first | done | rfl) ?_
              obtain ⟨hc, hF⟩ := hF
              refine zc_getf X hH hc 10 610 ("ChurchyardBook$Grave", "date", "I", false) (by decide +kernel) (v := .int (zi h 610 b3)) rfl q684 (Or.inl rfl) dX1_look_148 ?_
              refine lv_goto (tgt := 155) hx hb dX1_look_151 (by decide) ?_
              exact zc_iret X hH hB rfl rfl ⟨_, rfl, hF, eh⟩ dX1_look_155
          · have hF := hF.2.2.2.2.2.2.1 hk
            refine lv_tableIn (tgt := 156) hx hb dX1_look_32 (by rw [hk]; decide) (by rw [hk]; decide) (by rw [hk]; rfl) (by decide) ?_
            refine zq_aload_n hx hb dX1_look_156 rfl (lv_at hl 0 rfl) ?_
            refine zq_st (st2 := [.ref b3]) (by rw [eb3]; first | done | rfl) ?_
            obtain ⟨hc, hF⟩ := hF
            refine zc_getf X hH hc 1 601 ("ChurchyardBook$Grave", "field", "I", true) (by decide +kernel) (v := .int (zi h 601 b3)) rfl q658 (Or.inl rfl) dX1_look_157 ?_
            exact zc_iret X hH hB rfl rfl ⟨_, rfl, hF, eh⟩ dX1_look_160
          · have hF := hF.2.2.2.2.2.2.2.1 hk
            refine lv_tableIn (tgt := 161) hx hb dX1_look_32 (by rw [hk]; decide) (by rw [hk]; decide) (by rw [hk]; rfl) (by decide) ?_
            refine zq_aload_n hx hb dX1_look_161 rfl (lv_at hl 0 rfl) ?_
            refine zq_st (st2 := [.ref b3]) (by rw [eb3]; first | done | rfl) ?_
            obtain ⟨hc, hF⟩ := hF
            refine zc_getf X hH hc 2 602 ("ChurchyardBook$Grave", "row", "I", true) (by decide +kernel) (v := .int (zi h 602 b3)) rfl q661 (Or.inl rfl) dX1_look_162 ?_
            exact zc_iret X hH hB rfl rfl ⟨_, rfl, hF, eh⟩ dX1_look_165
          · have hF := hF.2.2.2.2.2.2.2.2.1 hk
            refine lv_tableIn (tgt := 166) hx hb dX1_look_32 (by rw [hk]; decide) (by rw [hk]; decide) (by rw [hk]; rfl) (by decide) ?_
            refine zq_aload_n hx hb dX1_look_166 rfl (lv_at hl 0 rfl) ?_
            refine zq_st (st2 := [.ref b3]) (by rw [eb3]; first | done | rfl) ?_
            obtain ⟨hc, hF⟩ := hF
            refine zc_getf X hH hc 3 603 ("ChurchyardBook$Grave", "place", "I", true) (by decide +kernel) (v := .int (zi h 603 b3)) rfl q664 (Or.inl rfl) dX1_look_167 ?_
            exact zc_iret X hH hB rfl rfl ⟨_, rfl, hF, eh⟩ dX1_look_170
          · have hF := hF.2.2.2.2.2.2.2.2.2 hk
            refine lv_tableIn (tgt := 171) hx hb dX1_look_32 (by rw [hk]; decide) (by rw [hk]; decide) (by rw [hk]; rfl) (by decide) ?_
            refine zq_aload_n hx hb dX1_look_171 rfl (lv_at hl 0 rfl) ?_
            refine zq_st (st2 := [.ref b3]) (by rw [eb3]; first | done | rfl) ?_
            obtain ⟨hc, hF⟩ := hF
            refine zc_getf X hH hc 15 615 ("ChurchyardBook$Grave", "lying", "Ljava/util/ArrayList;", true) (by decide +kernel) (v := va_rf (zr h 615 b3)) rfl q700 (Or.inl rfl) dX1_look_172 ?_
            obtain ⟨b8, eb8, hF⟩ := hF
            refine zq_st (st2 := [.ref b8]) (by rw [eb8]; first | done | rfl) ?_
            obtain ⟨hc, hF⟩ := hF
            refine zc_call (c1 := 0) (s1 := 0) (rest := []) hH hB (Nat.zero_le _) (Nat.zero_le _) (fun hf => zc_rV X hH hc (by decide) rfl (As := []) (wc_J2_size X.2.2.2.2.2.2.2.1 hF) (lw_V q1595 q350 q351 q94 q352) ⟨rfl, by decide, by decide, rfl⟩ ⟨Nat.le_of_ble_eq_true rfl, Nat.le_of_ble_eq_true rfl, Nat.le_of_ble_eq_true rfl⟩ rfl hl.1 (st0 := [.ref b8]) rfl (Nat.le_of_ble_eq_true rfl) dX1_look_175 hf) (fun E9 ce9 q9 h9 H locs hx9 => False.elim hx9) (fun v9 h9 H locs hv9 hH hB => ?_)
            obtain ⟨z9, rfl, hF, rfl⟩ := hv9
            exact zc_iret X hH hB rfl rfl ⟨_, rfl, hF, eh⟩ dX1_look_178
      · have hF := hF.2 cd
        exact wc_X1_look_23 X hN hT h C S hF _ _ _ _ _ hB eh (lv_sub hl [1] rfl) hH
set_option maxHeartbeats 4000000 in
set_option maxRecDepth 100000 in
theorem wc_X1_who_54 {p : Program} {l : Launch} {e : Env} {s : State} {m : MethodId} {args : Array Value} {below : List Frame} {meth : Method} {c : Code} {D : va_G} {cA : Nat → ClassId} {P : Nat → Prop} {G : Nat × Nat × Nat} {C S : Nat} {o : Nat} {Q : Int32 → Prop} {h0 : ZH} (X : zc_Cx p l s m args meth c cX1_who 5 (some .int) "ChurchyardBook" D cA P G) (hN : meth.name = "who") (hT : c.exceptionTable.toList = tableOf []) :
    ∀ (h : ZH), fc_X1_who_54 G o Q h → ∀ (H : Heap) (locs : List Loc) (ls : Array Slot) (cells slots : Nat), cells + 0 ≤ C ∧ slots + 0 ≤ S → h0 = h → lv_has ls 5 [(0, .ref o)] → zc_H D cA P h s H locs → W p l e (zc_Ro 5 C S) s m args below meth c H locs cells slots (vx_MQ below (zc_Q D cA P (fun v h' => ∃ z : Int32, v = some (.int z) ∧ Q z ∧ h0 = h')) (zc_X D cA P zc_no) args s C S P) (F0 m 54 ls []) := by
  have hx := X.1
  have hb := X.2.1
  have hown := X.2.2.2.1
  have hts := X.2.2.2.2.1
  intro h hF
  intro H locs ls cells slots hB eh hl hH
  unfold fc_X1_who_54 at hF
  refine lv_iconst (v := (-1)) hx hb dX1_who_54 (by decide) ?_
  refine lv_goto (tgt := 73) hx hb dX1_who_55 (by decide) ?_
  exact zc_iret X hH hB rfl rfl ⟨_, rfl, hF, eh⟩ dX1_who_73
set_option maxHeartbeats 4000000 in
set_option maxRecDepth 100000 in
theorem wc_X1_who {l : Launch} {D : va_G} {cA : Nat → ClassId} {P : Nat → Prop} {G : Nat × Nat × Nat} {o : Nat} {Q : Int32 → Prop} {h : ZH} {C S : Nat} {v1 : Int32} {v2 : Int32} {v3 : Int32} (hl9 : l.stackTraces = false) (hF : fc_X1_who G o Q h v1 v2 v3) :
    zc_M l yX1_who (ws_ yX1_who cX1_who 5 (some .int)) 5 D cA P G [.ref o, .int v1, .int v2, .int v3] h C S (fun v h' => ∃ z : Int32, v = some (.int z) ∧ Q z ∧ h = h') zc_no := by
  refine zc_ofF hl9 rfl (by decide +kernel) (Nat.le_of_ble_eq_true rfl) ?_
  intro p e s m args below meth c H locs ls X hN hT hH hl
  have hx := X.1
  have hb := X.2.1
  have hown := X.2.2.2.1
  have hts := X.2.2.2.2.1
  have hl : lv_has ls 5 [(0, .ref o), (1, .int v1), (2, .int v2), (3, .int v3)] := hl
  have hB : 0 + 0 ≤ C ∧ 0 + 0 ≤ S := ⟨by omega, by omega⟩
  have eh : h = h := rfl
  unfold fc_X1_who at hF
  refine lv_aload_n hx hb dX1_who_0 rfl (lv_at hl 0 rfl) ?_
  obtain ⟨hc, hF⟩ := hF
  refine zc_getf X hH hc 2 102 ("ChurchyardBook", "book", "LChurchyardBook$Book;", false) (by decide +kernel) (v := va_rf (zr h 102 o)) rfl q216 (Or.inl rfl) dX1_who_1 ?_
  refine lv_iload_n hx hb dX1_who_4 rfl (lv_at hl 1 rfl) ?_
  obtain ⟨b1, eb1, hF⟩ := hF
  refine zq_st (st2 := [.int v1, .ref b1]) (by rw [eb1]; first | done | rfl) ?_
  obtain ⟨hc, hF⟩ := hF
  refine zc_call (c1 := 0) (s1 := 0) (rest := []) hH hB (Nat.zero_le _) (Nat.zero_le _) (fun hf => zc_rV X hH hc (by decide) rfl (As := [.int v1]) (wc_X5_grave X.2.2.2.2.2.2.2.1 hF) (lw_V q1530 q954 q955 q91 q956) ⟨rfl, by decide, by decide, rfl⟩ ⟨Nat.le_of_ble_eq_true rfl, Nat.le_of_ble_eq_true rfl, Nat.le_of_ble_eq_true rfl⟩ rfl hl.1 (st0 := [.int v1, .ref b1]) rfl (Nat.le_of_ble_eq_true rfl) dX1_who_5 hf) (fun E9 ce9 q9 h9 H locs hx9 => False.elim hx9) (fun v9 h9 H locs hv9 hH hB => ?_)
  obtain ⟨r2, rfl, hF, rfl⟩ := hv9
  refine zq_astore (r := r2) (lv' := [(4, va_rf r2), (0, .ref o), (1, .int v1), (2, .int v2), (3, .int v3)]) hx hb rfl dX1_who_8 hl (by decide) rfl (fun ls hl => ?_)
  refine zq_aload hx hb dX1_who_10 (lv_at hl 0 rfl) ?_
  refine zq_ifnull (tgt := 24) hx hb dX1_who_12 (by decide) (fun cd => ?_) (fun b3 eb3 => ?_)
  · have hF := hF.1 cd
    refine lv_iconst (v := (-1)) hx hb dX1_who_24 (by decide) ?_
    exact zc_iret X hH hB rfl rfl ⟨_, rfl, hF, eh⟩ dX1_who_25
  · have hF := hF.2 b3 eb3
    refine lv_iload_n hx hb dX1_who_15 rfl (lv_at hl 4 rfl) ?_
    refine lv_if_lt (tgt := 24) hx hb dX1_who_16 (by decide) (fun cd => ?_) (fun cd => ?_)
    · have hF := hF.1 cd
      refine lv_iconst (v := (-1)) hx hb dX1_who_24 (by decide) ?_
      exact zc_iret X hH hB rfl rfl ⟨_, rfl, hF, eh⟩ dX1_who_25
    · have hF := hF.2 cd
      refine lv_iload_n hx hb dX1_who_19 rfl (lv_at hl 4 rfl) ?_
      refine lv_iconst (v := 1) hx hb dX1_who_20 (by decide) ?_
      refine lv_icmp_le (tgt := 26) hx hb dX1_who_21 (by decide) (fun cd => ?_) (fun cd => ?_)
      · have hF := hF.1 cd
        refine zq_aload hx hb dX1_who_26 (lv_at hl 0 rfl) ?_
        obtain ⟨hA, hF⟩ := hF
        refine zc_inst X hH (r := r2) [12] [2, 3, 8, 9, 10, 11, 13] "ChurchyardBook$Meadow" hA (by decide) (by decide +kernel) (by decide +kernel) (by decide) q802 dX1_who_28 ?_
        refine lv_if_eq (tgt := 74) hx hb dX1_who_31 (by decide) (fun cd => ?_) (fun cd => ?_)
        · have hF := hF.1 cd
          refine zq_aload hx hb dX1_who_74 (lv_at hl 0 rfl) ?_
          refine lv_iload_n hx hb dX1_who_76 rfl (lv_at hl 3 rfl) ?_
          refine lv_iload_n hx hb dX1_who_77 rfl (lv_at hl 4 rfl) ?_
          refine zq_st (st2 := [.int v3, .int v2, .ref b3]) (by rw [eb3]; first | done | rfl) ?_
          refine zc_call (c1 := 0) (s1 := 0) (rest := []) hH hB (Nat.zero_le _) (Nat.zero_le _) (fun hf => rv_in_9 X hH q1639 hF ⟨Nat.le_of_ble_eq_true rfl, Nat.le_of_ble_eq_true rfl, Nat.le_of_ble_eq_true rfl⟩ hl.1 (st0 := [.int v3, .int v2, .ref b3]) rfl (Nat.le_of_ble_eq_true rfl) dX1_who_78 hf) (fun E9 ce9 q9 h9 H locs hx9 => False.elim hx9) (fun v9 h9 H locs hv9 hH hB => ?_)
          obtain ⟨r4, rfl, hF, rfl⟩ := hv9
          refine zc_call (c1 := 0) (s1 := 0) (rest := []) hH hB (Nat.zero_le _) (Nat.zero_le _) (fun hf => zc_rS X hH (As := [va_rf r4]) (wc_X1_numberOf X.2.2.2.2.2.2.2.1 hF) (lw_S q1640 q1641 q87 q1642) ⟨by decide, by decide, rfl⟩ ⟨Nat.le_of_ble_eq_true rfl, Nat.le_of_ble_eq_true rfl, Nat.le_of_ble_eq_true rfl⟩ rfl hl.1 (st0 := [va_rf r4]) rfl (Nat.le_of_ble_eq_true rfl) dX1_who_81 hf) (fun E9 ce9 q9 h9 H locs hx9 => False.elim hx9) (fun v9 h9 H locs hv9 hH hB => ?_)
          obtain ⟨z5, rfl, hF, rfl⟩ := hv9
          exact zc_iret X hH hB rfl rfl ⟨_, rfl, hF, eh⟩ dX1_who_84
        · have hF := hF.2 cd
          refine lv_iload_n hx hb dX1_who_34 rfl (lv_at hl 4 rfl) ?_
          refine lv_if_gt (tgt := 54) hx hb dX1_who_35 (by decide) (fun cd => ?_) (fun cd => ?_)
          · have hF := hF.1 cd
            exact wc_X1_who_54 X hN hT h hF _ _ _ _ _ hB eh (lv_sub hl [1] rfl) hH
          · have hF := hF.2 cd
            refine lv_iload_n hx hb dX1_who_38 rfl (lv_at hl 3 rfl) ?_
            refine lv_if_lt (tgt := 54) hx hb dX1_who_39 (by decide) (fun cd => ?_) (fun cd => ?_)
            · have hF := hF.1 cd
              exact wc_X1_who_54 X hN hT h hF _ _ _ _ _ hB eh (lv_sub hl [1] rfl) hH
            · have hF := hF.2 cd
              refine lv_iload_n hx hb dX1_who_42 rfl (lv_at hl 3 rfl) ?_
              refine zq_aload hx hb dX1_who_43 (lv_at hl 0 rfl) ?_
              refine zq_st (st2 := [.ref b3, .int v2]) (by rw [eb3]; first | done | rfl) ?_
              obtain ⟨hc, hF⟩ := hF
              refine zc_getf X hH hc 15 615 ("ChurchyardBook$Grave", "lying", "Ljava/util/ArrayList;", true) (by decide +kernel) (v := va_rf (zr h 615 b3)) rfl q700 (Or.inl rfl) dX1_who_45 ?_
              obtain ⟨b6, eb6, hF⟩ := hF
              refine zq_st (st2 := [.ref b6, .int v2]) (by rw [eb6]; first | done | rfl) ?_
              obtain ⟨hc, hF⟩ := hF
              refine zc_call (c1 := 0) (s1 := 0) (rest := [.int v2]) hH hB (Nat.zero_le _) (Nat.zero_le _) (fun hf => zc_rV X hH hc (by decide) rfl (As := []) (wc_J2_size X.2.2.2.2.2.2.2.1 hF) (lw_V q1595 q350 q351 q94 q352) ⟨rfl, by decide, by decide, rfl⟩ ⟨Nat.le_of_ble_eq_true rfl, Nat.le_of_ble_eq_true rfl, Nat.le_of_ble_eq_true rfl⟩ rfl hl.1 (st0 := [.ref b6, .int v2]) rfl (Nat.le_of_ble_eq_true rfl) dX1_who_48 hf) (fun E9 ce9 q9 h9 H locs hx9 => False.elim hx9) (fun v9 h9 H locs hv9 hH hB => ?_)
              obtain ⟨z7, rfl, hF, rfl⟩ := hv9
              refine lv_icmp_lt (tgt := 58) hx hb dX1_who_51 (by decide) (fun cd => ?_) (fun cd => ?_)
              · have hF := hF.1 cd
                refine zq_aload hx hb dX1_who_58 (lv_at hl 0 rfl) ?_
                refine zq_st (st2 := [.ref b3]) (by rw [eb3]; first | done | rfl) ?_
                obtain ⟨hc, hF⟩ := hF
                refine zc_getf X hH hc 15 615 ("ChurchyardBook$Grave", "lying", "Ljava/util/ArrayList;", true) (by decide +kernel) (v := va_rf (zr h 615 b3)) rfl q700 (Or.inl rfl) dX1_who_60 ?_
                refine lv_iload_n hx hb dX1_who_63 rfl (lv_at hl 3 rfl) ?_
                refine zq_st (st2 := [.int v2, .ref b6]) (by rw [eb6]; first | done | rfl) ?_
                obtain ⟨hc, hF⟩ := hF
                refine zc_call (c1 := 0) (s1 := 0) (rest := []) hH hB (Nat.zero_le _) (Nat.zero_le _) (fun hf => zc_rV X hH hc (by decide) rfl (As := [.int v2]) (wc_J2_get X.2.2.2.2.2.2.2.1 hF) (lw_V q1596 q476 q477 q94 q478) ⟨rfl, by decide, by decide, rfl⟩ ⟨Nat.le_of_ble_eq_true rfl, Nat.le_of_ble_eq_true rfl, Nat.le_of_ble_eq_true rfl⟩ rfl hl.1 (st0 := [.int v2, .ref b6]) rfl (Nat.le_of_ble_eq_true rfl) dX1_who_64 hf) (fun E9 ce9 q9 h9 H locs hx9 => False.elim hx9) (fun v9 h9 H locs hv9 hH hB => ?_)
                obtain ⟨r8, rfl, hF, rfl⟩ := hv9
                obtain ⟨hR, hF⟩ := hF
                refine zc_castY X hH (r := r8) [14] "ChurchyardBook$Person" hR (by decide) (by decide +kernel) q1638 dX1_who_67 ?_
                obtain ⟨b9, eb9, hF⟩ := hF
                refine zq_st (st2 := [.ref b9]) (by rw [eb9]; first | done | rfl) ?_
                obtain ⟨hc, hF⟩ := hF
                refine zc_getf X hH hc 0 700 ("ChurchyardBook$Person", "number", "I", true) (by decide +kernel) (v := .int (zi h 700 b9)) rfl q864 (Or.inl rfl) dX1_who_70 ?_
                exact zc_iret X hH hB rfl rfl ⟨_, rfl, hF, eh⟩ dX1_who_73
              · have hF := hF.2 cd
                exact wc_X1_who_54 X hN hT h hF _ _ _ _ _ hB eh (lv_sub hl [1] rfl) hH
      · have hF := hF.2 cd
        refine lv_iconst (v := (-1)) hx hb dX1_who_24 (by decide) ?_
        exact zc_iret X hH hB rfl rfl ⟨_, rfl, hF, eh⟩ dX1_who_25
set_option maxHeartbeats 4000000 in
set_option maxRecDepth 100000 in
theorem wc_X1_of_23 {p : Program} {l : Launch} {e : Env} {s : State} {m : MethodId} {args : Array Value} {below : List Frame} {meth : Method} {c : Code} {D : va_G} {cA : Nat → ClassId} {P : Nat → Prop} {G : Nat × Nat × Nat} {C S : Nat} {o : Nat} {Q : Int32 → Prop} {XE : String → Nat → ZH → Prop} {h0 : ZH} (X : zc_Cx p l s m args meth c cX1_of 4 (some .int) "ChurchyardBook" D cA P G) (hN : meth.name = "of") (hT : c.exceptionTable.toList = tableOf []) :
    ∀ (h : ZH) (bc bs : Nat), fc_X1_of_23 G o Q XE h bc bs → ∀ (H : Heap) (locs : List Loc) (ls : Array Slot) (cells slots : Nat), cells + bc ≤ C ∧ slots + bs ≤ S → h0 = h → lv_has ls 4 [(0, .ref o)] → zc_H D cA P h s H locs → W p l e (zc_Ro 5 C S) s m args below meth c H locs cells slots (vx_MQ below (zc_Q D cA P (fun v h' => ∃ z : Int32, v = some (.int z) ∧ Q z ∧ h0 = h')) (zc_X D cA P XE) args s C S P) (F0 m 23 ls []) := by
  have hx := X.1
  have hb := X.2.1
  have hown := X.2.2.2.1
  have hts := X.2.2.2.2.1
  intro h bc bs hF
  intro H locs ls cells slots hB eh hl hH
  unfold fc_X1_of_23 at hF
  obtain ⟨hc1, hF⟩ := hF
  obtain ⟨hs1, hF⟩ := hF
  exact zx_nsee X hH hB hT hc1 hs1 hl.1 (Nat.le_of_ble_eq_true rfl) q1673 q123 hF dX1_of_23 dX1_of_26 dX1_of_27 dX1_of_30
set_option maxHeartbeats 4000000 in
set_option maxRecDepth 100000 in
theorem wc_X1_of {l : Launch} {D : va_G} {cA : Nat → ClassId} {P : Nat → Prop} {G : Nat × Nat × Nat} {o : Nat} {Q : Int32 → Prop} {XE : String → Nat → ZH → Prop} {h : ZH} {C S : Nat} {v1 : Int32} {v2 : Int32} (hl9 : l.stackTraces = false) (hF : fc_X1_of G o Q XE h C S v1 v2) :
    zc_M l yX1_of (ws_ yX1_of cX1_of 4 (some .int)) 5 D cA P G [.ref o, .int v1, .int v2] h C S (fun v h' => ∃ z : Int32, v = some (.int z) ∧ Q z ∧ h = h') XE := by
  refine zc_ofF hl9 rfl (by decide +kernel) (Nat.le_of_ble_eq_true rfl) ?_
  intro p e s m args below meth c H locs ls X hN hT hH hl
  have hx := X.1
  have hb := X.2.1
  have hown := X.2.2.2.1
  have hts := X.2.2.2.2.1
  have hl : lv_has ls 4 [(0, .ref o), (1, .int v1), (2, .int v2)] := hl
  have hB : 0 + C ≤ C ∧ 0 + S ≤ S := ⟨by omega, by omega⟩
  have eh : h = h := rfl
  unfold fc_X1_of at hF
  refine lv_aload_n hx hb dX1_of_0 rfl (lv_at hl 0 rfl) ?_
  obtain ⟨hc, hF⟩ := hF
  refine zc_getf X hH hc 2 102 ("ChurchyardBook", "book", "LChurchyardBook$Book;", false) (by decide +kernel) (v := va_rf (zr h 102 o)) rfl q216 (Or.inl rfl) dX1_of_1 ?_
  refine lv_iload_n hx hb dX1_of_4 rfl (lv_at hl 1 rfl) ?_
  obtain ⟨b1, eb1, hF⟩ := hF
  refine zq_st (st2 := [.int v1, .ref b1]) (by rw [eb1]; first | done | rfl) ?_
  obtain ⟨hc, hF⟩ := hF
  refine zc_call (c1 := 0) (s1 := 0) (rest := []) hH hB (Nat.zero_le _) (Nat.zero_le _) (fun hf => zc_rV X hH hc (by decide) rfl (As := [.int v1]) (wc_X5_person X.2.2.2.2.2.2.2.1 hF) (lw_V q1647 q938 q939 q91 q940) ⟨rfl, by decide, by decide, rfl⟩ ⟨Nat.le_of_ble_eq_true rfl, Nat.le_of_ble_eq_true rfl, Nat.le_of_ble_eq_true rfl⟩ rfl hl.1 (st0 := [.int v1, .ref b1]) rfl (Nat.le_of_ble_eq_true rfl) dX1_of_5 hf) (fun E9 ce9 q9 h9 H locs hx9 => False.elim hx9) (fun v9 h9 H locs hv9 hH hB => ?_)
  obtain ⟨r2, rfl, hF, rfl⟩ := hv9
  refine zq_astore_n (r := r2) (lv' := [(3, va_rf r2), (0, .ref o), (1, .int v1), (2, .int v2)]) hx hb rfl dX1_of_8 rfl hl (by decide) rfl (fun ls hl => ?_)
  refine zq_aload_n hx hb dX1_of_9 rfl (lv_at hl 0 rfl) ?_
  refine zq_ifnull (tgt := 23) hx hb dX1_of_10 (by decide) (fun cd => ?_) (fun b3 eb3 => ?_)
  · have hF := hF.1 cd
    exact wc_X1_of_23 X hN hT h C S hF _ _ _ _ _ hB eh (lv_sub hl [1] rfl) hH
  · have hF := hF.2 b3 eb3
    refine lv_iload_n hx hb dX1_of_13 rfl (lv_at hl 3 rfl) ?_
    refine lv_if_lt (tgt := 23) hx hb dX1_of_14 (by decide) (fun cd => ?_) (fun cd => ?_)
    · have hF := hF.1 cd
      exact wc_X1_of_23 X hN hT h C S hF _ _ _ _ _ hB eh (lv_sub hl [1] rfl) hH
    · have hF := hF.2 cd
      refine lv_iload_n hx hb dX1_of_17 rfl (lv_at hl 3 rfl) ?_
      refine lv_bipush (v := 9) hx hb dX1_of_18 (by decide) ?_
      refine lv_icmp_le (tgt := 31) hx hb dX1_of_20 (by decide) (fun cd => ?_) (fun cd => ?_)
      · have hF := hF.1 cd
        refine lv_iload_n hx hb dX1_of_31 rfl (lv_at hl 3 rfl) ?_
        by_cases hsw : v2.toInt < 0 ∨ 8 < v2.toInt
        · have hF := hF.1 hsw
          refine lv_tableOut (tgt := 179) hx hb dX1_of_32 hsw (by decide) ?_
          refine zq_aload_n hx hb dX1_of_179 rfl (lv_at hl 0 rfl) ?_
          refine zq_st (st2 := [.ref b3]) (by rw [eb3]; first | done | rfl) ?_
          obtain ⟨hc, hF⟩ := hF
          refine zc_getf X hH hc 6 706 ("ChurchyardBook$Person", "second", "LChurchyardBook$Person;", false) (by decide +kernel) (v := va_rf (zr h 706 b3)) rfl q881 (Or.inl rfl) dX1_of_180 ?_
          refine zc_call (c1 := 0) (s1 := 0) (rest := []) hH hB (Nat.zero_le _) (Nat.zero_le _) (fun hf => zc_rS X hH (As := [va_rf (zr h 706 b3)]) (wc_X1_numberOf X.2.2.2.2.2.2.2.1 hF) (lw_S q1640 q1641 q87 q1642) ⟨by decide, by decide, rfl⟩ ⟨Nat.le_of_ble_eq_true rfl, Nat.le_of_ble_eq_true rfl, Nat.le_of_ble_eq_true rfl⟩ rfl hl.1 (st0 := [va_rf (zr h 706 b3)]) rfl (Nat.le_of_ble_eq_true rfl) dX1_of_183 hf) (fun E9 ce9 q9 h9 H locs hx9 => False.elim hx9) (fun v9 h9 H locs hv9 hH hB => ?_)
          obtain ⟨z4, rfl, hF, rfl⟩ := hv9
          exact zc_iret X hH hB rfl rfl ⟨_, rfl, hF, eh⟩ dX1_of_186
        · have hF := hF.2
          have hsw2 : v2.toInt = 0 ∨ v2.toInt = 1 ∨ v2.toInt = 2 ∨ v2.toInt = 3 ∨ v2.toInt = 4 ∨ v2.toInt = 5 ∨ v2.toInt = 6 ∨ v2.toInt = 7 ∨ v2.toInt = 8 := by omega
          rcases hsw2 with hk | hk | hk | hk | hk | hk | hk | hk | hk
          · have hF := hF.1 hk
            refine lv_tableIn (tgt := 84) hx hb dX1_of_32 (by rw [hk]; decide) (by rw [hk]; decide) (by rw [hk]; rfl) (by decide) ?_
            refine zq_aload_n hx hb dX1_of_84 rfl (lv_at hl 0 rfl) ?_
            refine zq_st (st2 := [.ref b3]) (by rw [eb3]; first | done | rfl) ?_
            obtain ⟨hc, hF⟩ := hF
            refine zc_getf X hH hc 3 703 ("ChurchyardBook$Person", "isGone", "Z", false) (by decide +kernel) (v := .int (zi h 703 b3)) rfl q871 (Or.inl rfl) dX1_of_85 ?_
            refine lv_if_eq (tgt := 95) hx hb dX1_of_88 (by decide) (fun cd => ?_) (fun cd => ?_)
            · have hF := hF.1 cd
              refine zq_aload_n hx hb dX1_of_95 rfl (lv_at hl 0 rfl) ?_
              refine zq_st (st2 := [.ref b3]) (by rw [eb3]; first | done | rfl) ?_
              obtain ⟨hc, hF⟩ := hF
              refine zc_getf X hH hc 10 710 ("ChurchyardBook$Person", "grave", "LChurchyardBook$Grave;", false) (by decide +kernel) (v := va_rf (zr h 710 b3)) rfl q893 (Or.inl rfl) dX1_of_96 ?_
              refine zq_ifnull (tgt := 106) hx hb dX1_of_99 (by decide) (fun cd => ?_) (fun b5 eb5 => ?_)
              · have hF := hF.1 cd
                refine zq_aload_n hx hb dX1_of_106 rfl (lv_at hl 0 rfl) ?_
                refine zq_st (st2 := [.ref b3]) (by rw [eb3]; first | done | rfl) ?_
                obtain ⟨hc, hF⟩ := hF
                refine zc_getf X hH hc 2 702 ("ChurchyardBook$Person", "isDead", "Z", false) (by decide +kernel) (v := .int (zi h 702 b3)) rfl q870 (Or.inl rfl) dX1_of_107 ?_
                refine lv_if_eq (tgt := 117) hx hb dX1_of_110 (by decide) (fun cd => ?_) (fun cd => ?_)
                · have hF := hF.1 cd
                  refine lv_iconst (v := 0) hx hb dX1_of_117 (by decide) ?_
                  exact zc_iret X hH hB rfl rfl ⟨_, rfl, hF, eh⟩ dX1_of_118
                · have hF := hF.2 cd
                  refine lv_iconst (v := 1) hx hb dX1_of_113 (by decide) ?_
                  refine lv_goto (tgt := 118) hx hb dX1_of_114 (by decide) ?_
                  exact zc_iret X hH hB rfl rfl ⟨_, rfl, hF, eh⟩ dX1_of_118
              · have hF := hF.2 b5 eb5
                refine lv_iconst (v := 2) hx hb dX1_of_102 (by decide) ?_
                refine lv_goto (tgt := 118) hx hb dX1_of_103 (by decide) ?_
                exact zc_iret X hH hB rfl rfl ⟨_, rfl, hF, eh⟩ dX1_of_118
            · have hF := hF.2 cd
              refine lv_iconst (v := 3) hx hb dX1_of_91 (by decide) ?_
              refine lv_goto (tgt := 118) hx hb dX1_of_92 (by decide) ?_
              exact zc_iret X hH hB rfl rfl ⟨_, rfl, hF, eh⟩ dX1_of_118
          · have hF := hF.2.1 hk
            refine lv_tableIn (tgt := 119) hx hb dX1_of_32 (by rw [hk]; decide) (by rw [hk]; decide) (by rw [hk]; rfl) (by decide) ?_
            refine zq_aload_n hx hb dX1_of_119 rfl (lv_at hl 0 rfl) ?_
            refine zq_st (st2 := [.ref b3]) (by rw [eb3]; first | done | rfl) ?_
            obtain ⟨hc, hF⟩ := hF
            refine zc_getf X hH hc 10 710 ("ChurchyardBook$Person", "grave", "LChurchyardBook$Grave;", false) (by decide +kernel) (v := va_rf (zr h 710 b3)) rfl q893 (Or.inl rfl) dX1_of_120 ?_
            refine zq_ifnonnull (tgt := 130) hx hb dX1_of_123 (by decide) (fun b6 eb6 => ?_) (fun cd => ?_)
            · have hF := hF.2 b6 eb6
              refine zq_aload_n hx hb dX1_of_130 rfl (lv_at hl 0 rfl) ?_
              refine zq_st (st2 := [.ref b3]) (by rw [eb3]; first | done | rfl) ?_
              obtain ⟨hc, hF⟩ := hF
              refine zc_getf X hH hc 10 710 ("ChurchyardBook$Person", "grave", "LChurchyardBook$Grave;", false) (by decide +kernel) (v := va_rf (zr h 710 b3)) rfl q893 (Or.inl rfl) dX1_of_131 ?_
              refine zq_st (st2 := [.ref b6]) (by rw [eb6]; first | done | rfl) ?_
              obtain ⟨hc, hF⟩ := hF
              refine zc_getf X hH hc 0 600 ("ChurchyardBook$Grave", "number", "I", true) (by decide +kernel) (v := .int (zi h 600 b6)) rfl q656 (Or.inl rfl) dX1_of_134 ?_
              exact zc_iret X hH hB rfl rfl ⟨_, rfl, hF, eh⟩ dX1_of_137
            · have hF := hF.1 cd
              refine lv_iconst (v := (-1)) hx hb dX1_of_126 (by decide) ?_
              refine lv_goto (tgt := 137) hx hb dX1_of_127 (by decide) ?_
              exact zc_iret X hH hB rfl rfl ⟨_, rfl, hF, eh⟩ dX1_of_137
          · have hF := hF.2.2.1 hk
            refine lv_tableIn (tgt := 138) hx hb dX1_of_32 (by rw [hk]; decide) (by rw [hk]; decide) (by rw [hk]; rfl) (by decide) ?_
            refine zq_aload_n hx hb dX1_of_138 rfl (lv_at hl 0 rfl) ?_
            refine zq_st (st2 := [.ref b3]) (by rw [eb3]; first | done | rfl) ?_
            obtain ⟨hc, hF⟩ := hF
            refine zc_getf X hH hc 11 711 ("ChurchyardBook$Person", "column", "I", false) (by decide +kernel) (v := .int (zi h 711 b3)) rfl q897 (Or.inl rfl) dX1_of_139 ?_
            exact zc_iret X hH hB rfl rfl ⟨_, rfl, hF, eh⟩ dX1_of_142
          · have hF := hF.2.2.2.1 hk
            refine lv_tableIn (tgt := 143) hx hb dX1_of_32 (by rw [hk]; decide) (by rw [hk]; decide) (by rw [hk]; rfl) (by decide) ?_
            refine zq_aload_n hx hb dX1_of_143 rfl (lv_at hl 0 rfl) ?_
            refine zq_st (st2 := [.ref b3]) (by rw [eb3]; first | done | rfl) ?_
            obtain ⟨hc, hF⟩ := hF
            refine zc_getf X hH hc 12 712 ("ChurchyardBook$Person", "depth", "I", false) (by decide +kernel) (v := .int (zi h 712 b3)) rfl q901 (Or.inl rfl) dX1_of_144 ?_
            exact zc_iret X hH hB rfl rfl ⟨_, rfl, hF, eh⟩ dX1_of_147
          · have hF := hF.2.2.2.2.1 hk
            refine lv_tableIn (tgt := 148) hx hb dX1_of_32 (by rw [hk]; decide) (by rw [hk]; decide) (by rw [hk]; rfl) (by decide) ?_
            refine zq_aload_n hx hb dX1_of_148 rfl (lv_at hl 0 rfl) ?_
            refine zq_st (st2 := [.ref b3]) (by rw [eb3]; first | done | rfl) ?_
            obtain ⟨hc, hF⟩ := hF
            refine zc_getf X hH hc 9 709 ("ChurchyardBook$Person", "end", "I", false) (by decide +kernel) (v := .int (zi h 709 b3)) rfl q890 (Or.inl rfl) dX1_of_149 ?_
            exact zc_iret X hH hB rfl rfl ⟨_, rfl, hF, eh⟩ dX1_of_152
          · have hF := hF.2.2.2.2.2.1 hk
            refine lv_tableIn (tgt := 153) hx hb dX1_of_32 (by rw [hk]; decide) (by rw [hk]; decide) (by rw [hk]; rfl) (by decide) ?_
            refine zq_aload_n hx hb dX1_of_153 rfl (lv_at hl 0 rfl) ?_
            refine zq_st (st2 := [.ref b3]) (by rw [eb3]; first | done | rfl) ?_
            obtain ⟨hc, hF⟩ := hF
            refine zc_getf X hH hc 8 708 ("ChurchyardBook$Person", "kind", "I", false) (by decide +kernel) (v := .int (zi h 708 b3)) rfl q885 (Or.inl rfl) dX1_of_154 ?_
            exact zc_iret X hH hB rfl rfl ⟨_, rfl, hF, eh⟩ dX1_of_157
          · have hF := hF.2.2.2.2.2.2.1 hk
            refine lv_tableIn (tgt := 158) hx hb dX1_of_32 (by rw [hk]; decide) (by rw [hk]; decide) (by rw [hk]; rfl) (by decide) ?_
            refine zq_aload_n hx hb dX1_of_158 rfl (lv_at hl 0 rfl) ?_
            refine zq_st (st2 := [.ref b3]) (by rw [eb3]; first | done | rfl) ?_
            obtain ⟨hc, hF⟩ := hF
            refine zc_getf X hH hc 1 701 ("ChurchyardBook$Person", "born", "I", true) (by decide +kernel) (v := .int (zi h 701 b3)) rfl q867 (Or.inl rfl) dX1_of_159 ?_
            exact zc_iret X hH hB rfl rfl ⟨_, rfl, hF, eh⟩ dX1_of_162
          · have hF := hF.2.2.2.2.2.2.2.1 hk
            refine lv_tableIn (tgt := 163) hx hb dX1_of_32 (by rw [hk]; decide) (by rw [hk]; decide) (by rw [hk]; rfl) (by decide) ?_
            refine zq_aload_n hx hb dX1_of_163 rfl (lv_at hl 0 rfl) ?_
            refine zq_st (st2 := [.ref b3]) (by rw [eb3]; first | done | rfl) ?_
            obtain ⟨hc, hF⟩ := hF
            refine zc_getf X hH hc 4 704 ("ChurchyardBook$Person", "wed", "LChurchyardBook$Person;", false) (by decide +kernel) (v := va_rf (zr h 704 b3)) rfl q875 (Or.inl rfl) dX1_of_164 ?_
            refine zc_call (c1 := 0) (s1 := 0) (rest := []) hH hB (Nat.zero_le _) (Nat.zero_le _) (fun hf => zc_rS X hH (As := [va_rf (zr h 704 b3)]) (wc_X1_numberOf X.2.2.2.2.2.2.2.1 hF) (lw_S q1640 q1641 q87 q1642) ⟨by decide, by decide, rfl⟩ ⟨Nat.le_of_ble_eq_true rfl, Nat.le_of_ble_eq_true rfl, Nat.le_of_ble_eq_true rfl⟩ rfl hl.1 (st0 := [va_rf (zr h 704 b3)]) rfl (Nat.le_of_ble_eq_true rfl) dX1_of_167 hf) (fun E9 ce9 q9 h9 H locs hx9 => False.elim hx9) (fun v9 h9 H locs hv9 hH hB => ?_)
            obtain ⟨z7, rfl, hF, rfl⟩ := hv9
            exact zc_iret X hH hB rfl rfl ⟨_, rfl, hF, eh⟩ dX1_of_170
          · have hF := hF.2.2.2.2.2.2.2.2 hk
            refine lv_tableIn (tgt := 171) hx hb dX1_of_32 (by rw [hk]; decide) (by rw [hk]; decide) (by rw [hk]; rfl) (by decide) ?_
            refine zq_aload_n hx hb dX1_of_171 rfl (lv_at hl 0 rfl) ?_
            refine zq_st (st2 := [.ref b3]) (by rw [eb3]; first | done | rfl) ?_
            obtain ⟨hc, hF⟩ := hF
            refine zc_getf X hH hc 5 705 ("ChurchyardBook$Person", "first", "LChurchyardBook$Person;", false) (by decide +kernel) (v := va_rf (zr h 705 b3)) rfl q878 (Or.inl rfl) dX1_of_172 ?_
            refine zc_call (c1 := 0) (s1 := 0) (rest := []) hH hB (Nat.zero_le _) (Nat.zero_le _) (fun hf => zc_rS X hH (As := [va_rf (zr h 705 b3)]) (wc_X1_numberOf X.2.2.2.2.2.2.2.1 hF) (lw_S q1640 q1641 q87 q1642) ⟨by decide, by decide, rfl⟩ ⟨Nat.le_of_ble_eq_true rfl, Nat.le_of_ble_eq_true rfl, Nat.le_of_ble_eq_true rfl⟩ rfl hl.1 (st0 := [va_rf (zr h 705 b3)]) rfl (Nat.le_of_ble_eq_true rfl) dX1_of_175 hf) (fun E9 ce9 q9 h9 H locs hx9 => False.elim hx9) (fun v9 h9 H locs hv9 hH hB => ?_)
            obtain ⟨z8, rfl, hF, rfl⟩ := hv9
            exact zc_iret X hH hB rfl rfl ⟨_, rfl, hF, eh⟩ dX1_of_178
      · have hF := hF.2 cd
        exact wc_X1_of_23 X hN hT h C S hF _ _ _ _ _ hB eh (lv_sub hl [1] rfl) hH
set_option maxHeartbeats 4000000 in
set_option maxRecDepth 100000 in
theorem wc_X1_where_41 {p : Program} {l : Launch} {e : Env} {s : State} {m : MethodId} {args : Array Value} {below : List Frame} {meth : Method} {c : Code} {D : va_G} {cA : Nat → ClassId} {P : Nat → Prop} {G : Nat × Nat × Nat} {C S : Nat} {o : Nat} {Q : Int32 → Prop} {h0 : ZH} (X : zc_Cx p l s m args meth c cX1_where 6 (some .int) "ChurchyardBook" D cA P G) (hN : meth.name = "where") (hT : c.exceptionTable.toList = tableOf []) :
    ∀ (n : Nat) (h : ZH) (v2 : Int32) (q3 : Option Nat) (v4 : Int32), fc_X1_where_41 G o Q n h v2 q3 v4 → ∀ (H : Heap) (locs : List Loc) (ls : Array Slot) (cells slots : Nat), cells + 0 ≤ C ∧ slots + 0 ≤ S → h0 = h → lv_has ls 6 [(0, .ref o), (2, .int v2), (3, va_rf q3), (4, .int v4)] → zc_H D cA P h s H locs → W p l e (zc_Ro 5 C S) s m args below meth c H locs cells slots (vx_MQ below (zc_Q D cA P (fun v h' => ∃ z : Int32, v = some (.int z) ∧ Q z ∧ h0 = h')) (zc_X D cA P zc_no) args s C S P) (F0 m 41 ls []) := by
  have hx := X.1
  have hb := X.2.1
  have hown := X.2.2.2.1
  have hts := X.2.2.2.2.1
  intro n
  induction n with
  | zero =>
    intro h v2 q3 v4 hF
    exact False.elim hF
  | succ n ih =>
    intro h v2 q3 v4 hF
    intro H locs ls cells slots hB eh hl hH
    unfold fc_X1_where_41 at hF
    refine lv_iload hx hb dX1_where_41 (lv_at hl 3 rfl) ?_
    refine lv_if_lt (tgt := 96) hx hb dX1_where_43 (by decide) (fun cd => ?_) (fun cd => ?_)
    · have hF := hF.1 cd
      refine lv_iconst (v := (-1)) hx hb dX1_where_96 (by decide) ?_
      exact zc_iret X hH hB rfl rfl ⟨_, rfl, hF, eh⟩ dX1_where_97
    · have hF := hF.2 cd
      refine zq_aload_n hx hb dX1_where_46 rfl (lv_at hl 2 rfl) ?_
      obtain ⟨b1, eb1, hF⟩ := hF
      refine zq_st (st2 := [.ref b1]) (by rw [eb1]; first | done | rfl) ?_
      obtain ⟨hc, hF⟩ := hF
      refine zc_getf X hH hc 13 713 ("ChurchyardBook$Person", "stays", "Ljava/util/ArrayList;", true) (by decide +kernel) (v := va_rf (zr h 713 b1)) rfl q903 (Or.inl rfl) dX1_where_47 ?_
      refine lv_iload hx hb dX1_where_50 (lv_at hl 3 rfl) ?_
      obtain ⟨b2, eb2, hF⟩ := hF
      refine zq_st (st2 := [.int v4, .ref b2]) (by rw [eb2]; first | done | rfl) ?_
      obtain ⟨hc, hF⟩ := hF
      refine zc_call (c1 := 0) (s1 := 0) (rest := []) hH hB (Nat.zero_le _) (Nat.zero_le _) (fun hf => zc_rV X hH hc (by decide) rfl (As := [.int v4]) (wc_J2_get X.2.2.2.2.2.2.2.1 hF) (lw_V q1596 q476 q477 q94 q478) ⟨rfl, by decide, by decide, rfl⟩ ⟨Nat.le_of_ble_eq_true rfl, Nat.le_of_ble_eq_true rfl, Nat.le_of_ble_eq_true rfl⟩ rfl hl.1 (st0 := [.int v4, .ref b2]) rfl (Nat.le_of_ble_eq_true rfl) dX1_where_52 hf) (fun E9 ce9 q9 h9 H locs hx9 => False.elim hx9) (fun v9 h9 H locs hv9 hH hB => ?_)
      obtain ⟨r3, rfl, hF, rfl⟩ := hv9
      obtain ⟨hR, hF⟩ := hF
      refine zc_castY X hH (r := r3) [15] "ChurchyardBook$Stay" hR (by decide) (by decide +kernel) q1648 dX1_where_55 ?_
      refine zq_astore (r := r3) (lv' := [(5, va_rf r3), (0, .ref o), (2, .int v2), (3, va_rf q3), (4, .int v4)]) hx hb rfl dX1_where_58 hl (by decide) rfl (fun ls hl => ?_)
      refine zq_aload hx hb dX1_where_60 (lv_at hl 0 rfl) ?_
      obtain ⟨b4, eb4, hF⟩ := hF
      refine zq_st (st2 := [.ref b4]) (by rw [eb4]; first | done | rfl) ?_
      obtain ⟨hc, hF⟩ := hF
      refine zc_getf X hH hc 0 800 ("ChurchyardBook$Stay", "day", "I", true) (by decide +kernel) (v := .int (zi h 800 b4)) rfl q1318 (Or.inl rfl) dX1_where_62 ?_
      refine lv_iload_n hx hb dX1_where_65 rfl (lv_at hl 2 rfl) ?_
      refine lv_icmp_gt (tgt := 90) hx hb dX1_where_66 (by decide) (fun cd => ?_) (fun cd => ?_)
      · have hF := hF.1 cd
        obtain ⟨x5, ex5⟩ : ∃ z : Int32, z = v4 + (-1) := ⟨_, rfl⟩
        have hF := hF x5 ex5
        refine lv_iinc (v := x5) (lv' := [(4, .int x5), (5, va_rf r3), (0, .ref o), (2, .int v2), (3, va_rf q3)]) hx hb dX1_where_90 hl (k := 4) rfl (by rw [ex5]; rfl) (by decide) (by cases q3 <;> rfl) (fun ls hl => ?_)
        refine lv_goto (tgt := 41) hx hb dX1_where_93 (by decide) ?_
        exact ih h v2 q3 x5 hF _ _ _ _ _ hB eh (lv_sub hl [2, 3, 4, 0] rfl) hH
      · have hF := hF.2 cd
        refine zq_aload hx hb dX1_where_69 (lv_at hl 0 rfl) ?_
        refine zq_st (st2 := [.ref b4]) (by rw [eb4]; first | done | rfl) ?_
        obtain ⟨hc, hF⟩ := hF
        refine zc_getf X hH hc 1 801 ("ChurchyardBook$Stay", "grave", "LChurchyardBook$Grave;", true) (by decide +kernel) (v := va_rf (zr h 801 b4)) rfl q1320 (Or.inl rfl) dX1_where_71 ?_
        refine zq_ifnonnull (tgt := 81) hx hb dX1_where_74 (by decide) (fun b6 eb6 => ?_) (fun cd => ?_)
        · have hF := hF.2 b6 eb6
          refine zq_aload hx hb dX1_where_81 (lv_at hl 0 rfl) ?_
          refine zq_st (st2 := [.ref b4]) (by rw [eb4]; first | done | rfl) ?_
          obtain ⟨hc, hF⟩ := hF
          refine zc_getf X hH hc 1 801 ("ChurchyardBook$Stay", "grave", "LChurchyardBook$Grave;", true) (by decide +kernel) (v := va_rf (zr h 801 b4)) rfl q1320 (Or.inl rfl) dX1_where_83 ?_
          refine zq_st (st2 := [.ref b6]) (by rw [eb6]; first | done | rfl) ?_
          obtain ⟨hc, hF⟩ := hF
          refine zc_getf X hH hc 0 600 ("ChurchyardBook$Grave", "number", "I", true) (by decide +kernel) (v := .int (zi h 600 b6)) rfl q656 (Or.inl rfl) dX1_where_86 ?_
          exact zc_iret X hH hB rfl rfl ⟨_, rfl, hF, eh⟩ dX1_where_89
        · have hF := hF.1 cd
          refine lv_iconst (v := (-1)) hx hb dX1_where_77 (by decide) ?_
          refine lv_goto (tgt := 89) hx hb dX1_where_78 (by decide) ?_
          exact zc_iret X hH hB rfl rfl ⟨_, rfl, hF, eh⟩ dX1_where_89
set_option maxHeartbeats 4000000 in
set_option maxRecDepth 100000 in
theorem wc_X1_where {l : Launch} {D : va_G} {cA : Nat → ClassId} {P : Nat → Prop} {G : Nat × Nat × Nat} {o : Nat} {Q : Int32 → Prop} {h : ZH} {C S : Nat} {v1 : Int32} {v2 : Int32} (hl9 : l.stackTraces = false) (hF : fc_X1_where G o Q h v1 v2) :
    zc_M l yX1_where (ws_ yX1_where cX1_where 6 (some .int)) 5 D cA P G [.ref o, .int v1, .int v2] h C S (fun v h' => ∃ z : Int32, v = some (.int z) ∧ Q z ∧ h = h') zc_no := by
  refine zc_ofF hl9 rfl (by decide +kernel) (Nat.le_of_ble_eq_true rfl) ?_
  intro p e s m args below meth c H locs ls X hN hT hH hl
  have hx := X.1
  have hb := X.2.1
  have hown := X.2.2.2.1
  have hts := X.2.2.2.2.1
  have hl : lv_has ls 6 [(0, .ref o), (1, .int v1), (2, .int v2)] := hl
  have hB : 0 + 0 ≤ C ∧ 0 + 0 ≤ S := ⟨by omega, by omega⟩
  have eh : h = h := rfl
  unfold fc_X1_where at hF
  refine lv_aload_n hx hb dX1_where_0 rfl (lv_at hl 0 rfl) ?_
  obtain ⟨hc, hF⟩ := hF
  refine zc_getf X hH hc 2 102 ("ChurchyardBook", "book", "LChurchyardBook$Book;", false) (by decide +kernel) (v := va_rf (zr h 102 o)) rfl q216 (Or.inl rfl) dX1_where_1 ?_
  refine lv_iload_n hx hb dX1_where_4 rfl (lv_at hl 1 rfl) ?_
  obtain ⟨b1, eb1, hF⟩ := hF
  refine zq_st (st2 := [.int v1, .ref b1]) (by rw [eb1]; first | done | rfl) ?_
  obtain ⟨hc, hF⟩ := hF
  refine zc_call (c1 := 0) (s1 := 0) (rest := []) hH hB (Nat.zero_le _) (Nat.zero_le _) (fun hf => zc_rV X hH hc (by decide) rfl (As := [.int v1]) (wc_X5_person X.2.2.2.2.2.2.2.1 hF) (lw_V q1647 q938 q939 q91 q940) ⟨rfl, by decide, by decide, rfl⟩ ⟨Nat.le_of_ble_eq_true rfl, Nat.le_of_ble_eq_true rfl, Nat.le_of_ble_eq_true rfl⟩ rfl hl.1 (st0 := [.int v1, .ref b1]) rfl (Nat.le_of_ble_eq_true rfl) dX1_where_5 hf) (fun E9 ce9 q9 h9 H locs hx9 => False.elim hx9) (fun v9 h9 H locs hv9 hH hB => ?_)
  obtain ⟨r2, rfl, hF, rfl⟩ := hv9
  refine zq_astore_n (r := r2) (lv' := [(3, va_rf r2), (0, .ref o), (1, .int v1), (2, .int v2)]) hx hb rfl dX1_where_8 rfl hl (by decide) rfl (fun ls hl => ?_)
  refine zq_aload_n hx hb dX1_where_9 rfl (lv_at hl 0 rfl) ?_
  refine zq_ifnull (tgt := 28) hx hb dX1_where_10 (by decide) (fun cd => ?_) (fun b3 eb3 => ?_)
  · have hF := hF.1 cd
    refine lv_iconst (v := (-1)) hx hb dX1_where_28 (by decide) ?_
    exact zc_iret X hH hB rfl rfl ⟨_, rfl, hF, eh⟩ dX1_where_29
  · have hF := hF.2 b3 eb3
    refine lv_iload_n hx hb dX1_where_13 rfl (lv_at hl 3 rfl) ?_
    refine lv_if_lt (tgt := 28) hx hb dX1_where_14 (by decide) (fun cd => ?_) (fun cd => ?_)
    · have hF := hF.1 cd
      refine lv_iconst (v := (-1)) hx hb dX1_where_28 (by decide) ?_
      exact zc_iret X hH hB rfl rfl ⟨_, rfl, hF, eh⟩ dX1_where_29
    · have hF := hF.2 cd
      refine lv_iload_n hx hb dX1_where_17 rfl (lv_at hl 3 rfl) ?_
      refine lv_aload_n hx hb dX1_where_18 rfl (lv_at hl 1 rfl) ?_
      obtain ⟨hc, hF⟩ := hF
      refine zc_getf X hH hc 2 102 ("ChurchyardBook", "book", "LChurchyardBook$Book;", false) (by decide +kernel) (v := va_rf (zr h 102 o)) rfl q216 (Or.inl rfl) dX1_where_19 ?_
      refine zq_st (st2 := [.ref b1, .int v2]) (by rw [eb1]; first | done | rfl) ?_
      obtain ⟨hc, hF⟩ := hF
      refine zc_getf X hH hc 3 203 ("ChurchyardBook$Book", "today", "I", false) (by decide +kernel) (v := .int (zi h 203 b1)) rfl q195 (Or.inl rfl) dX1_where_22 ?_
      refine lv_icmp_le (tgt := 30) hx hb dX1_where_25 (by decide) (fun cd => ?_) (fun cd => ?_)
      · have hF := hF.1 cd
        refine zq_aload_n hx hb dX1_where_30 rfl (lv_at hl 0 rfl) ?_
        refine zq_st (st2 := [.ref b3]) (by rw [eb3]; first | done | rfl) ?_
        obtain ⟨hc, hF⟩ := hF
        refine zc_getf X hH hc 13 713 ("ChurchyardBook$Person", "stays", "Ljava/util/ArrayList;", true) (by decide +kernel) (v := va_rf (zr h 713 b3)) rfl q903 (Or.inl rfl) dX1_where_31 ?_
        obtain ⟨b4, eb4, hF⟩ := hF
        refine zq_st (st2 := [.ref b4]) (by rw [eb4]; first | done | rfl) ?_
        obtain ⟨hc, hF⟩ := hF
        refine zc_call (c1 := 0) (s1 := 0) (rest := []) hH hB (Nat.zero_le _) (Nat.zero_le _) (fun hf => zc_rV X hH hc (by decide) rfl (As := []) (wc_J2_size X.2.2.2.2.2.2.2.1 hF) (lw_V q1595 q350 q351 q94 q352) ⟨rfl, by decide, by decide, rfl⟩ ⟨Nat.le_of_ble_eq_true rfl, Nat.le_of_ble_eq_true rfl, Nat.le_of_ble_eq_true rfl⟩ rfl hl.1 (st0 := [.ref b4]) rfl (Nat.le_of_ble_eq_true rfl) dX1_where_34 hf) (fun E9 ce9 q9 h9 H locs hx9 => False.elim hx9) (fun v9 h9 H locs hv9 hH hB => ?_)
        obtain ⟨z5, rfl, hF, rfl⟩ := hv9
        refine lv_iconst (v := 1) hx hb dX1_where_37 (by decide) ?_
        refine lv_isub hx hb dX1_where_38 ?_
        refine lv_topi (fun x6 ex6 => ?_)
        have hF := hF x6 ex6
        refine lv_istore (lv' := [(4, .int x6), (3, va_rf r2), (0, .ref o), (1, .int v1), (2, .int v2)]) hx hb dX1_where_39 hl (by decide) (by cases r2 <;> rfl) (fun ls hl => ?_)
        obtain ⟨n9, hF⟩ := hF
        exact wc_X1_where_41 X hN hT n9 h v2 r2 x6 hF _ _ _ _ _ hB eh (lv_sub hl [2, 4, 1, 0] rfl) hH
      · have hF := hF.2 cd
        refine lv_iconst (v := (-1)) hx hb dX1_where_28 (by decide) ?_
        exact zc_iret X hH hB rfl rfl ⟨_, rfl, hF, eh⟩ dX1_where_29
set_option maxHeartbeats 4000000 in
set_option maxRecDepth 100000 in
theorem wc_X1_order {l : Launch} {D : va_G} {cA : Nat → ClassId} {P : Nat → Prop} {G : Nat × Nat × Nat} {o : Nat} {Q : Int32 → Prop} {h : ZH} {C S : Nat} {v1 : Int32} {v2 : Int32} (hl9 : l.stackTraces = false) (hF : fc_X1_order G o Q h v1 v2) :
    zc_M l yX1_order (ws_ yX1_order cX1_order 4 (some .int)) 5 D cA P G [.ref o, .int v1, .int v2] h C S (fun v h' => ∃ z : Int32, v = some (.int z) ∧ Q z ∧ h = h') zc_no := by
  refine zc_ofF hl9 rfl (by decide +kernel) (Nat.le_of_ble_eq_true rfl) ?_
  intro p e s m args below meth c H locs ls X hN hT hH hl
  have hx := X.1
  have hb := X.2.1
  have hown := X.2.2.2.1
  have hts := X.2.2.2.2.1
  have hl : lv_has ls 4 [(0, .ref o), (1, .int v1), (2, .int v2)] := hl
  have hB : 0 + 0 ≤ C ∧ 0 + 0 ≤ S := ⟨by omega, by omega⟩
  have eh : h = h := rfl
  unfold fc_X1_order at hF
  refine lv_aload_n hx hb dX1_order_0 rfl (lv_at hl 0 rfl) ?_
  obtain ⟨hc, hF⟩ := hF
  refine zc_getf X hH hc 2 102 ("ChurchyardBook", "book", "LChurchyardBook$Book;", false) (by decide +kernel) (v := va_rf (zr h 102 o)) rfl q216 (Or.inl rfl) dX1_order_1 ?_
  refine lv_iload_n hx hb dX1_order_4 rfl (lv_at hl 1 rfl) ?_
  obtain ⟨b1, eb1, hF⟩ := hF
  refine zq_st (st2 := [.int v1, .ref b1]) (by rw [eb1]; first | done | rfl) ?_
  obtain ⟨hc, hF⟩ := hF
  refine zc_call (c1 := 0) (s1 := 0) (rest := []) hH hB (Nat.zero_le _) (Nat.zero_le _) (fun hf => zc_rV X hH hc (by decide) rfl (As := [.int v1]) (wc_X5_grave X.2.2.2.2.2.2.2.1 hF) (lw_V q1530 q954 q955 q91 q956) ⟨rfl, by decide, by decide, rfl⟩ ⟨Nat.le_of_ble_eq_true rfl, Nat.le_of_ble_eq_true rfl, Nat.le_of_ble_eq_true rfl⟩ rfl hl.1 (st0 := [.int v1, .ref b1]) rfl (Nat.le_of_ble_eq_true rfl) dX1_order_5 hf) (fun E9 ce9 q9 h9 H locs hx9 => False.elim hx9) (fun v9 h9 H locs hv9 hH hB => ?_)
  obtain ⟨r2, rfl, hF, rfl⟩ := hv9
  refine zq_astore_n (r := r2) (lv' := [(3, va_rf r2), (0, .ref o), (1, .int v1), (2, .int v2)]) hx hb rfl dX1_order_8 rfl hl (by decide) rfl (fun ls hl => ?_)
  refine zq_aload_n hx hb dX1_order_9 rfl (lv_at hl 0 rfl) ?_
  refine zq_ifnull (tgt := 41) hx hb dX1_order_10 (by decide) (fun cd => ?_) (fun b3 eb3 => ?_)
  · have hF := hF.1 cd
    refine lv_iconst (v := (-1)) hx hb dX1_order_41 (by decide) ?_
    exact zc_iret X hH hB rfl rfl ⟨_, rfl, hF, eh⟩ dX1_order_42
  · have hF := hF.2 b3 eb3
    refine zq_aload_n hx hb dX1_order_13 rfl (lv_at hl 0 rfl) ?_
    refine zq_st (st2 := [.ref b3]) (by rw [eb3]; first | done | rfl) ?_
    obtain ⟨hc, hF⟩ := hF
    refine zc_getf X hH hc 6 606 ("ChurchyardBook$Grave", "state", "I", false) (by decide +kernel) (v := .int (zi h 606 b3)) rfl q673 (Or.inl rfl) dX1_order_14 ?_
    refine lv_iconst (v := 2) hx hb dX1_order_17 (by decide) ?_
    refine lv_icmp_ne (tgt := 41) hx hb dX1_order_18 (by decide) (fun cd => ?_) (fun cd => ?_)
    · have hF := hF.1 cd
      refine lv_iconst (v := (-1)) hx hb dX1_order_41 (by decide) ?_
      exact zc_iret X hH hB rfl rfl ⟨_, rfl, hF, eh⟩ dX1_order_42
    · have hF := hF.2 cd
      refine lv_iload_n hx hb dX1_order_21 rfl (lv_at hl 3 rfl) ?_
      refine lv_if_lt (tgt := 41) hx hb dX1_order_22 (by decide) (fun cd => ?_) (fun cd => ?_)
      · have hF := hF.1 cd
        refine lv_iconst (v := (-1)) hx hb dX1_order_41 (by decide) ?_
        exact zc_iret X hH hB rfl rfl ⟨_, rfl, hF, eh⟩ dX1_order_42
      · have hF := hF.2 cd
        refine lv_iload_n hx hb dX1_order_25 rfl (lv_at hl 3 rfl) ?_
        refine zq_aload_n hx hb dX1_order_26 rfl (lv_at hl 0 rfl) ?_
        refine zq_st (st2 := [.ref b3, .int v2]) (by rw [eb3]; first | done | rfl) ?_
        obtain ⟨hc, hF⟩ := hF
        refine zc_getf X hH hc 11 611 ("ChurchyardBook$Grave", "order", "Ljava/util/ArrayList;", true) (by decide +kernel) (v := va_rf (zr h 611 b3)) rfl q687 (Or.inl rfl) dX1_order_27 ?_
        obtain ⟨b4, eb4, hF⟩ := hF
        refine zq_st (st2 := [.ref b4, .int v2]) (by rw [eb4]; first | done | rfl) ?_
        obtain ⟨hc, hF⟩ := hF
        refine zc_call (c1 := 0) (s1 := 0) (rest := [.int v2]) hH hB (Nat.zero_le _) (Nat.zero_le _) (fun hf => zc_rV X hH hc (by decide) rfl (As := []) (wc_J2_size X.2.2.2.2.2.2.2.1 hF) (lw_V q1595 q350 q351 q94 q352) ⟨rfl, by decide, by decide, rfl⟩ ⟨Nat.le_of_ble_eq_true rfl, Nat.le_of_ble_eq_true rfl, Nat.le_of_ble_eq_true rfl⟩ rfl hl.1 (st0 := [.ref b4, .int v2]) rfl (Nat.le_of_ble_eq_true rfl) dX1_order_30 hf) (fun E9 ce9 q9 h9 H locs hx9 => False.elim hx9) (fun v9 h9 H locs hv9 hH hB => ?_)
        obtain ⟨z5, rfl, hF, rfl⟩ := hv9
        refine zq_aload_n hx hb dX1_order_33 rfl (lv_at hl 0 rfl) ?_
        refine zq_st (st2 := [.ref b3, .int z5, .int v2]) (by rw [eb3]; first | done | rfl) ?_
        obtain ⟨hc, hF⟩ := hF
        refine zc_getf X hH hc 12 612 ("ChurchyardBook$Grave", "at", "I", false) (by decide +kernel) (v := .int (zi h 612 b3)) rfl q690 (Or.inl rfl) dX1_order_34 ?_
        refine lv_isub hx hb dX1_order_37 ?_
        refine lv_icmp_lt (tgt := 43) hx hb dX1_order_38 (by decide) (fun cd => ?_) (fun cd => ?_)
        · have hF := hF.1 cd
          refine zq_aload_n hx hb dX1_order_43 rfl (lv_at hl 0 rfl) ?_
          refine zq_st (st2 := [.ref b3]) (by rw [eb3]; first | done | rfl) ?_
          obtain ⟨hc, hF⟩ := hF
          refine zc_getf X hH hc 11 611 ("ChurchyardBook$Grave", "order", "Ljava/util/ArrayList;", true) (by decide +kernel) (v := va_rf (zr h 611 b3)) rfl q687 (Or.inl rfl) dX1_order_44 ?_
          refine zq_aload_n hx hb dX1_order_47 rfl (lv_at hl 0 rfl) ?_
          refine zq_st (st2 := [.ref b3, va_rf (zr h 611 b3)]) (by rw [eb3]; first | done | rfl) ?_
          obtain ⟨hc, hF⟩ := hF
          refine zc_getf X hH hc 12 612 ("ChurchyardBook$Grave", "at", "I", false) (by decide +kernel) (v := .int (zi h 612 b3)) rfl q690 (Or.inl rfl) dX1_order_48 ?_
          refine lv_iload_n hx hb dX1_order_51 rfl (lv_at hl 3 rfl) ?_
          refine lv_iadd hx hb dX1_order_52 ?_
          refine zq_st (st2 := [.int ((zi h 612 b3) + v2), .ref b4]) (by rw [eb4]; first | done | rfl) ?_
          obtain ⟨hc, hF⟩ := hF
          refine zc_call (c1 := 0) (s1 := 0) (rest := []) hH hB (Nat.zero_le _) (Nat.zero_le _) (fun hf => zc_rV X hH hc (by decide) rfl (As := [.int ((zi h 612 b3) + v2)]) (wc_J2_get X.2.2.2.2.2.2.2.1 hF) (lw_V q1596 q476 q477 q94 q478) ⟨rfl, by decide, by decide, rfl⟩ ⟨Nat.le_of_ble_eq_true rfl, Nat.le_of_ble_eq_true rfl, Nat.le_of_ble_eq_true rfl⟩ rfl hl.1 (st0 := [.int ((zi h 612 b3) + v2), .ref b4]) rfl (Nat.le_of_ble_eq_true rfl) dX1_order_53 hf) (fun E9 ce9 q9 h9 H locs hx9 => False.elim hx9) (fun v9 h9 H locs hv9 hH hB => ?_)
          obtain ⟨r6, rfl, hF, rfl⟩ := hv9
          obtain ⟨hR, hF⟩ := hF
          refine zc_castY X hH (r := r6) [14] "ChurchyardBook$Person" hR (by decide) (by decide +kernel) q1638 dX1_order_56 ?_
          obtain ⟨b7, eb7, hF⟩ := hF
          refine zq_st (st2 := [.ref b7]) (by rw [eb7]; first | done | rfl) ?_
          obtain ⟨hc, hF⟩ := hF
          refine zc_getf X hH hc 0 700 ("ChurchyardBook$Person", "number", "I", true) (by decide +kernel) (v := .int (zi h 700 b7)) rfl q864 (Or.inl rfl) dX1_order_59 ?_
          exact zc_iret X hH hB rfl rfl ⟨_, rfl, hF, eh⟩ dX1_order_62
        · have hF := hF.2 cd
          refine lv_iconst (v := (-1)) hx hb dX1_order_41 (by decide) ?_
          exact zc_iret X hH hB rfl rfl ⟨_, rfl, hF, eh⟩ dX1_order_42
set_option maxHeartbeats 4000000 in
set_option maxRecDepth 100000 in
theorem wc_X1_states_45 {p : Program} {l : Launch} {e : Env} {s : State} {m : MethodId} {args : Array Value} {below : List Frame} {meth : Method} {c : Code} {D : va_G} {cA : Nat → ClassId} {P : Nat → Prop} {G : Nat × Nat × Nat} {C S : Nat} {o : Nat} {Q : Int32 → Prop} {K4 : ZH → Int32 → Int32 → Int32 → Prop} {h0 : ZH} (X : zc_Cx p l s m args meth c cX1_states 4 (some .int) "ChurchyardBook" D cA P G) (hN : meth.name = "states") (hT : c.exceptionTable.toList = tableOf []) (hK4 : ∀ (h : ZH) (v1 : Int32) (v2 : Int32) (v3 : Int32), K4 h v1 v2 v3 → ∀ (H : Heap) (locs : List Loc) (ls : Array Slot) (cells slots : Nat), cells + 0 ≤ C ∧ slots + 0 ≤ S → h0 = h → lv_has ls 4 [(0, .ref o), (1, .int v1), (2, .int v2), (3, .int v3)] → zc_H D cA P h s H locs → W p l e (zc_Ro 4 C S) s m args below meth c H locs cells slots (vx_MQ below (zc_Q D cA P (fun v h' => ∃ z : Int32, v = some (.int z) ∧ Q z ∧ h0 = h')) (zc_X D cA P zc_no) args s C S P) (F0 m 4 ls [])) :
    ∀ (h : ZH) (v1 : Int32) (v3 : Int32) (t0 : Int32) (t1 : Int32), fc_X1_states_45 G o Q K4 h v1 v3 t0 t1 → ∀ (H : Heap) (locs : List Loc) (ls : Array Slot) (cells slots : Nat), cells + 0 ≤ C ∧ slots + 0 ≤ S → h0 = h → lv_has ls 4 [(0, .ref o), (1, .int v1), (3, .int v3)] → zc_H D cA P h s H locs → W p l e (zc_Ro 4 C S) s m args below meth c H locs cells slots (vx_MQ below (zc_Q D cA P (fun v h' => ∃ z : Int32, v = some (.int z) ∧ Q z ∧ h0 = h')) (zc_X D cA P zc_no) args s C S P) (F0 m 45 ls [.int t1, .int t0]) := by
  have hx := X.1
  have hb := X.2.1
  have hown := X.2.2.2.1
  have hts := X.2.2.2.2.1
  intro h v1 v3 t0 t1 hF
  intro H locs ls cells slots hB eh hl hH
  unfold fc_X1_states_45 at hF
  refine lv_iadd hx hb dX1_states_45 ?_
  refine lv_topi (fun x1 ex1 => ?_)
  have hF := hF x1 ex1
  refine lv_istore_n (lv' := [(2, .int x1), (0, .ref o), (1, .int v1), (3, .int v3)]) hx hb dX1_states_46 rfl hl (by decide) rfl (fun ls hl => ?_)
  obtain ⟨x2, ex2⟩ : ∃ z : Int32, z = v3 + 1 := ⟨_, rfl⟩
  have hF := hF x2 ex2
  refine lv_iinc (v := x2) (lv' := [(3, .int x2), (2, .int x1), (0, .ref o), (1, .int v1)]) hx hb dX1_states_47 hl (k := 3) rfl (by rw [ex2]; rfl) (by decide) rfl (fun ls hl => ?_)
  refine lv_goto (tgt := 4) hx hb dX1_states_50 (by decide) ?_
  exact hK4 h v1 x1 x2 hF _ _ _ _ _ hB eh (lv_sub hl [2, 3, 1, 0] rfl) hH
set_option maxHeartbeats 4000000 in
set_option maxRecDepth 100000 in
theorem wc_X1_states_4 {p : Program} {l : Launch} {e : Env} {s : State} {m : MethodId} {args : Array Value} {below : List Frame} {meth : Method} {c : Code} {D : va_G} {cA : Nat → ClassId} {P : Nat → Prop} {G : Nat × Nat × Nat} {C S : Nat} {o : Nat} {Q : Int32 → Prop} {h0 : ZH} (X : zc_Cx p l s m args meth c cX1_states 4 (some .int) "ChurchyardBook" D cA P G) (hN : meth.name = "states") (hT : c.exceptionTable.toList = tableOf []) :
    ∀ (n : Nat) (h : ZH) (v1 : Int32) (v2 : Int32) (v3 : Int32), fc_X1_states_4 G o Q n h v1 v2 v3 → ∀ (H : Heap) (locs : List Loc) (ls : Array Slot) (cells slots : Nat), cells + 0 ≤ C ∧ slots + 0 ≤ S → h0 = h → lv_has ls 4 [(0, .ref o), (1, .int v1), (2, .int v2), (3, .int v3)] → zc_H D cA P h s H locs → W p l e (zc_Ro 4 C S) s m args below meth c H locs cells slots (vx_MQ below (zc_Q D cA P (fun v h' => ∃ z : Int32, v = some (.int z) ∧ Q z ∧ h0 = h')) (zc_X D cA P zc_no) args s C S P) (F0 m 4 ls []) := by
  have hx := X.1
  have hb := X.2.1
  have hown := X.2.2.2.1
  have hts := X.2.2.2.2.1
  intro n
  induction n with
  | zero =>
    intro h v1 v2 v3 hF
    exact False.elim hF
  | succ n ih =>
    intro h v1 v2 v3 hF
    intro H locs ls cells slots hB eh hl hH
    unfold fc_X1_states_4 at hF
    refine lv_iload_n hx hb dX1_states_4 rfl (lv_at hl 3 rfl) ?_
    refine lv_aload_n hx hb dX1_states_5 rfl (lv_at hl 0 rfl) ?_
    obtain ⟨hc, hF⟩ := hF
    refine zc_getf X hH hc 2 102 ("ChurchyardBook", "book", "LChurchyardBook$Book;", false) (by decide +kernel) (v := va_rf (zr h 102 o)) rfl q216 (Or.inl rfl) dX1_states_6 ?_
    obtain ⟨b1, eb1, hF⟩ := hF
    refine zq_st (st2 := [.ref b1, .int v3]) (by rw [eb1]; first | done | rfl) ?_
    obtain ⟨hc, hF⟩ := hF
    refine zc_getf X hH hc 1 201 ("ChurchyardBook$Book", "graves", "Ljava/util/ArrayList;", true) (by decide +kernel) (v := va_rf (zr h 201 b1)) rfl q191 (Or.inl rfl) dX1_states_9 ?_
    obtain ⟨b2, eb2, hF⟩ := hF
    refine zq_st (st2 := [.ref b2, .int v3]) (by rw [eb2]; first | done | rfl) ?_
    obtain ⟨hc, hF⟩ := hF
    refine zc_call (c1 := 0) (s1 := 0) (rest := [.int v3]) hH hB (Nat.zero_le _) (Nat.zero_le _) (fun hf => zc_rV X hH hc (by decide) rfl (As := []) (wc_J2_size X.2.2.2.2.2.2.2.1 hF) (lw_V q1595 q350 q351 q94 q352) ⟨rfl, by decide, by decide, rfl⟩ ⟨Nat.le_of_ble_eq_true rfl, Nat.le_of_ble_eq_true rfl, Nat.le_of_ble_eq_true rfl⟩ rfl hl.1 (st0 := [.ref b2, .int v3]) rfl (Nat.le_of_ble_eq_true rfl) dX1_states_12 hf) (fun E9 ce9 q9 h9 H locs hx9 => False.elim hx9) (fun v9 h9 H locs hv9 hH hB => ?_)
    obtain ⟨z3, rfl, hF, rfl⟩ := hv9
    refine lv_icmp_ge (tgt := 53) hx hb dX1_states_15 (by decide) (fun cd => ?_) (fun cd => ?_)
    · have hF := hF.1 cd
      refine lv_iload_n hx hb dX1_states_53 rfl (lv_at hl 2 rfl) ?_
      exact zc_iret X hH hB rfl rfl ⟨_, rfl, hF, eh⟩ dX1_states_54
    · have hF := hF.2 cd
      refine lv_iload_n hx hb dX1_states_18 rfl (lv_at hl 2 rfl) ?_
      refine lv_aload_n hx hb dX1_states_19 rfl (lv_at hl 0 rfl) ?_
      obtain ⟨hc, hF⟩ := hF
      refine zc_getf X hH hc 2 102 ("ChurchyardBook", "book", "LChurchyardBook$Book;", false) (by decide +kernel) (v := va_rf (zr h 102 o)) rfl q216 (Or.inl rfl) dX1_states_20 ?_
      refine zq_st (st2 := [.ref b1, .int v2]) (by rw [eb1]; first | done | rfl) ?_
      obtain ⟨hc, hF⟩ := hF
      refine zc_getf X hH hc 1 201 ("ChurchyardBook$Book", "graves", "Ljava/util/ArrayList;", true) (by decide +kernel) (v := va_rf (zr h 201 b1)) rfl q191 (Or.inl rfl) dX1_states_23 ?_
      refine lv_iload_n hx hb dX1_states_26 rfl (lv_at hl 3 rfl) ?_
      refine zq_st (st2 := [.int v3, .ref b2, .int v2]) (by rw [eb2]; first | done | rfl) ?_
      obtain ⟨hc, hF⟩ := hF
      refine zc_call (c1 := 0) (s1 := 0) (rest := [.int v2]) hH hB (Nat.zero_le _) (Nat.zero_le _) (fun hf => zc_rV X hH hc (by decide) rfl (As := [.int v3]) (wc_J2_get X.2.2.2.2.2.2.2.1 hF) (lw_V q1596 q476 q477 q94 q478) ⟨rfl, by decide, by decide, rfl⟩ ⟨Nat.le_of_ble_eq_true rfl, Nat.le_of_ble_eq_true rfl, Nat.le_of_ble_eq_true rfl⟩ rfl hl.1 (st0 := [.int v3, .ref b2, .int v2]) rfl (Nat.le_of_ble_eq_true rfl) dX1_states_27 hf) (fun E9 ce9 q9 h9 H locs hx9 => False.elim hx9) (fun v9 h9 H locs hv9 hH hB => ?_)
      obtain ⟨r4, rfl, hF, rfl⟩ := hv9
      obtain ⟨hR, hF⟩ := hF
      refine zc_castY X hH (r := r4) [8, 9, 10, 11, 12, 13] "ChurchyardBook$Grave" hR (by decide) (by decide +kernel) q493 dX1_states_30 ?_
      obtain ⟨b5, eb5, hF⟩ := hF
      refine zq_st (st2 := [.ref b5, .int v2]) (by rw [eb5]; first | done | rfl) ?_
      obtain ⟨hc, hF⟩ := hF
      refine zc_getf X hH hc 6 606 ("ChurchyardBook$Grave", "state", "I", false) (by decide +kernel) (v := .int (zi h 606 b5)) rfl q673 (Or.inl rfl) dX1_states_33 ?_
      refine lv_iload_n hx hb dX1_states_36 rfl (lv_at hl 1 rfl) ?_
      refine lv_icmp_ne (tgt := 44) hx hb dX1_states_37 (by decide) (fun cd => ?_) (fun cd => ?_)
      · have hF := hF.1 cd
        refine lv_iconst (v := 0) hx hb dX1_states_44 (by decide) ?_
        exact wc_X1_states_45 X hN hT ih h v1 v3 v2 0 hF _ _ _ _ _ hB eh (lv_sub hl [0, 1, 3] rfl) hH
      · have hF := hF.2 cd
        refine lv_iconst (v := 1) hx hb dX1_states_40 (by decide) ?_
        refine lv_goto (tgt := 45) hx hb dX1_states_41 (by decide) ?_
        exact wc_X1_states_45 X hN hT ih h v1 v3 v2 1 hF _ _ _ _ _ hB eh (lv_sub hl [0, 1, 3] rfl) hH
