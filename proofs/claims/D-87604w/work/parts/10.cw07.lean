/-! THE COMPONENT SIDE: the walks, printed by gen_comp.py -/
set_option maxRecDepth 100000
set_option maxHeartbeats 4000000 in
set_option maxRecDepth 100000 in
theorem wc_X5_urn_2 {p : Program} {l : Launch} {e : Env} {s : State} {m : MethodId} {args : Array Value} {below : List Frame} {meth : Method} {c : Code} {D : va_G} {cA : Nat → ClassId} {P : Nat → Prop} {G : Nat × Nat × Nat} {C S : Nat} {o : Nat} {Q : ZH → Prop} (X : zc_Cx p l s m args meth c cX5_urn 5 none "ChurchyardBook$Book" D cA P G) (hN : meth.name = "urn") (hT : c.exceptionTable.toList = tableOf []) :
    ∀ (n : Nat) (h : ZH) (bc bs : Nat) (q1 : Option Nat) (q2 : Option Nat) (v3 : Int32), fc_X5_urn_2 G o Q n h bc bs q1 q2 v3 → ∀ (H : Heap) (locs : List Loc) (ls : Array Slot) (cells slots : Nat), cells + bc ≤ C ∧ slots + bs ≤ S → lv_has ls 5 [(0, .ref o), (1, va_rf q1), (2, va_rf q2), (3, .int v3)] → zc_H D cA P h s H locs → W p l e (zc_Ro 10 C S) s m args below meth c H locs cells slots (vx_MQ below (zc_Q D cA P (fun v h' => v = none ∧ Q h')) (zc_X D cA P zc_no) args s C S P) (F0 m 2 ls []) := by
  have hx := X.1
  have hb := X.2.1
  have hown := X.2.2.2.1
  have hts := X.2.2.2.2.1
  intro n
  induction n with
  | zero =>
    intro h bc bs q1 q2 v3 hF
    exact False.elim hF
  | succ n ih =>
    intro h bc bs q1 q2 v3 hF
    intro H locs ls cells slots hB hl hH
    unfold fc_X5_urn_2 at hF
    refine lv_iload_n hx hb dX5_urn_2 rfl (lv_at hl 3 rfl) ?_
    refine lv_aload_n hx hb dX5_urn_3 rfl (lv_at hl 0 rfl) ?_
    obtain ⟨hc, hF⟩ := hF
    refine zc_getf X hH hc 1 201 ("ChurchyardBook$Book", "graves", "Ljava/util/ArrayList;", true) (by decide +kernel) (v := va_rf (zr h 201 o)) rfl q190 (Or.inl rfl) dX5_urn_4 ?_
    obtain ⟨b1, eb1, hF⟩ := hF
    refine zq_st (st2 := [.ref b1, .int v3]) (by rw [eb1]; first | done | rfl) ?_
    obtain ⟨hc, hF⟩ := hF
    refine zc_call (c1 := 0) (s1 := 0) (rest := [.int v3]) hH hB (Nat.zero_le _) (Nat.zero_le _) (fun hf => zc_rV X hH hc (by decide) rfl (As := []) (wc_J2_size X.2.2.2.2.2.2.2.1 hF) (lw_V q349 q350 q351 q94 q352) ⟨rfl, by decide, by decide, rfl⟩ ⟨Nat.le_of_ble_eq_true rfl, Nat.le_of_ble_eq_true rfl, Nat.le_of_ble_eq_true rfl⟩ rfl hl.1 (st0 := [.ref b1, .int v3]) rfl (Nat.le_of_ble_eq_true rfl) dX5_urn_7 hf) (fun E9 ce9 q9 h9 H locs hx9 => False.elim hx9) (fun v9 h9 H locs hv9 hH hB => ?_)
    obtain ⟨z2, rfl, hF, rfl⟩ := hv9
    refine lv_icmp_ge (tgt := 78) hx hb dX5_urn_10 (by decide) (fun cd => ?_) (fun cd => ?_)
    · have hF := hF.1 cd
      exact zc_vret X hH hB rfl ⟨rfl, hF⟩ dX5_urn_78
    · have hF := hF.2 cd
      refine zq_aload_n hx hb dX5_urn_13 rfl (lv_at hl 2 rfl) ?_
      refine zq_ifnull (tgt := 78) hx hb dX5_urn_14 (by decide) (fun cd => ?_) (fun b3 eb3 => ?_)
      · have hF := hF.1 cd
        exact zc_vret X hH hB rfl ⟨rfl, hF⟩ dX5_urn_78
      · have hF := hF.2 b3 eb3
        refine lv_aload_n hx hb dX5_urn_17 rfl (lv_at hl 0 rfl) ?_
        obtain ⟨hc, hF⟩ := hF
        refine zc_getf X hH hc 1 201 ("ChurchyardBook$Book", "graves", "Ljava/util/ArrayList;", true) (by decide +kernel) (v := va_rf (zr h 201 o)) rfl q190 (Or.inl rfl) dX5_urn_18 ?_
        refine lv_iload_n hx hb dX5_urn_21 rfl (lv_at hl 3 rfl) ?_
        refine zq_st (st2 := [.int v3, .ref b1]) (by rw [eb1]; first | done | rfl) ?_
        obtain ⟨hc, hF⟩ := hF
        refine zc_call (c1 := 0) (s1 := 0) (rest := []) hH hB (Nat.zero_le _) (Nat.zero_le _) (fun hf => zc_rV X hH hc (by decide) rfl (As := [.int v3]) (wc_J2_get X.2.2.2.2.2.2.2.1 hF) (lw_V q475 q476 q477 q94 q478) ⟨rfl, by decide, by decide, rfl⟩ ⟨Nat.le_of_ble_eq_true rfl, Nat.le_of_ble_eq_true rfl, Nat.le_of_ble_eq_true rfl⟩ rfl hl.1 (st0 := [.int v3, .ref b1]) rfl (Nat.le_of_ble_eq_true rfl) dX5_urn_22 hf) (fun E9 ce9 q9 h9 H locs hx9 => False.elim hx9) (fun v9 h9 H locs hv9 hH hB => ?_)
        obtain ⟨r4, rfl, hF, rfl⟩ := hv9
        obtain ⟨hR, hF⟩ := hF
        refine zc_castY X hH (r := r4) [8, 9, 10, 11, 12, 13] "ChurchyardBook$Grave" hR (by decide) (by decide +kernel) q531 dX5_urn_25 ?_
        refine zq_astore (r := r4) (lv' := [(4, va_rf r4), (0, .ref o), (1, va_rf q1), (2, va_rf q2), (3, .int v3)]) hx hb rfl dX5_urn_28 hl (by decide) rfl (fun ls hl => ?_)
        refine lv_aload_n hx hb dX5_urn_30 rfl (lv_at hl 1 rfl) ?_
        refine zq_aload hx hb dX5_urn_31 (lv_at hl 0 rfl) ?_
        refine zq_aload_n hx hb dX5_urn_33 rfl (lv_at hl 2 rfl) ?_
        obtain ⟨b5, eb5, hF⟩ := hF
        refine zq_st (st2 := [.ref b5, va_rf r4, .ref o]) (by rw [eb5]; first | done | rfl) ?_
        obtain ⟨hc, hF⟩ := hF
        refine zc_getf X hH hc 1 601 ("ChurchyardBook$Grave", "field", "I", true) (by decide +kernel) (v := .int (zi h 601 b5)) rfl q659 (Or.inl rfl) dX5_urn_34 ?_
        obtain ⟨hc, hF⟩ := hF
        refine zc_call (c1 := 0) (s1 := 0) (rest := []) hH hB (Nat.zero_le _) (Nat.zero_le _) (fun hf => zc_rV X hH hc (by decide) rfl (As := [va_rf r4, .int (zi h 601 b5)]) (wc_X5_isMeadow X.2.2.2.2.2.2.2.1 hF) (lw_V q1392 q1394 qs20 q91 q1395) ⟨rfl, by decide, by decide, rfl⟩ ⟨Nat.le_of_ble_eq_true rfl, Nat.le_of_ble_eq_true rfl, Nat.le_of_ble_eq_true rfl⟩ rfl hl.1 (st0 := [.int (zi h 601 b5), va_rf r4, .ref o]) rfl (Nat.le_of_ble_eq_true rfl) dX5_urn_37 hf) (fun E9 ce9 q9 h9 H locs hx9 => False.elim hx9) (fun v9 h9 H locs hv9 hH hB => ?_)
        obtain ⟨z6, rfl, hF, rfl⟩ := hv9
        refine lv_if_eq (tgt := 72) hx hb dX5_urn_40 (by decide) (fun cd => ?_) (fun cd => ?_)
        · have hF := hF.1 cd
          exact wc_X5_urn_72 X hN hT ih h bc bs q1 q2 v3 hF _ _ _ _ _ hB (lv_sub hl [1, 2, 3, 4] rfl) hH
        · have hF := hF.2 cd
          refine zq_aload hx hb dX5_urn_43 (lv_at hl 0 rfl) ?_
          obtain ⟨b7, eb7, hF⟩ := hF
          refine zq_st (st2 := [.ref b7]) (by rw [eb7]; first | done | rfl) ?_
          obtain ⟨hc, hF⟩ := hF
          refine zc_getf X hH hc 15 615 ("ChurchyardBook$Grave", "lying", "Ljava/util/ArrayList;", true) (by decide +kernel) (v := va_rf (zr h 615 b7)) rfl q701 (Or.inl rfl) dX5_urn_45 ?_
          obtain ⟨b8, eb8, hF⟩ := hF
          refine zq_st (st2 := [.ref b8]) (by rw [eb8]; first | done | rfl) ?_
          obtain ⟨hc, hF⟩ := hF
          refine zc_call (c1 := 0) (s1 := 0) (rest := []) hH hB (Nat.zero_le _) (Nat.zero_le _) (fun hf => zc_rV X hH hc (by decide) rfl (As := []) (wc_J2_size X.2.2.2.2.2.2.2.1 hF) (lw_V q349 q350 q351 q94 q352) ⟨rfl, by decide, by decide, rfl⟩ ⟨Nat.le_of_ble_eq_true rfl, Nat.le_of_ble_eq_true rfl, Nat.le_of_ble_eq_true rfl⟩ rfl hl.1 (st0 := [.ref b8]) rfl (Nat.le_of_ble_eq_true rfl) dX5_urn_48 hf) (fun E9 ce9 q9 h9 H locs hx9 => False.elim hx9) (fun v9 h9 H locs hv9 hH hB => ?_)
          obtain ⟨z9, rfl, hF, rfl⟩ := hv9
          refine lv_bipush (v := 40) hx hb dX5_urn_51 (by decide) ?_
          refine lv_icmp_ne (tgt := 59) hx hb dX5_urn_53 (by decide) (fun cd => ?_) (fun cd => ?_)
          · have hF := hF.1 cd
            refine zq_aload hx hb dX5_urn_59 (lv_at hl 0 rfl) ?_
            refine zq_aload_n hx hb dX5_urn_61 rfl (lv_at hl 3 rfl) ?_
            refine lv_iconst (v := 0) hx hb dX5_urn_62 (by decide) ?_
            refine lv_iconst (v := 0) hx hb dX5_urn_63 (by decide) ?_
            refine lv_aload_n hx hb dX5_urn_64 rfl (lv_at hl 1 rfl) ?_
            obtain ⟨hc, hF⟩ := hF
            refine zc_getf X hH hc 3 203 ("ChurchyardBook$Book", "today", "I", false) (by decide +kernel) (v := .int (zi h 203 o)) rfl q194 (Or.inl rfl) dX5_urn_65 ?_
            refine zq_st (st2 := [.int (zi h 203 o), .int 0, .int 0, va_rf q2, .ref b7]) (by rw [eb7]; first | done | rfl) ?_
            obtain ⟨c10, s11, hc1, hs1, hF⟩ := hF
            refine zc_call (c1 := c10) (s1 := s11) (rest := []) hH hB hc1 hs1 (fun hf => rv_put_19 X hH q1297 hF ⟨Nat.le_of_ble_eq_true rfl, Nat.le_of_ble_eq_true rfl, Nat.le_of_ble_eq_true rfl⟩ hl.1 (st0 := [.int (zi h 203 o), .int 0, .int 0, va_rf q2, .ref b7]) rfl (Nat.le_of_ble_eq_true rfl) dX5_urn_68 hf) (fun E9 ce9 q9 h9 H locs hx9 => False.elim hx9) (fun v9 h12 H locs hv9 hH hB => ?_)
            obtain ⟨rfl, hF⟩ := hv9
            exact zc_vret X hH hB rfl ⟨rfl, hF⟩ dX5_urn_71
          · have hF := hF.2 cd
            refine lv_goto (tgt := 72) hx hb dX5_urn_56 (by decide) ?_
            exact wc_X5_urn_72 X hN hT ih h bc bs q1 q2 v3 hF _ _ _ _ _ hB (lv_sub hl [1, 2, 3, 4] rfl) hH
set_option maxHeartbeats 4000000 in
set_option maxRecDepth 100000 in
theorem wc_X5_urn {l : Launch} {D : va_G} {cA : Nat → ClassId} {P : Nat → Prop} {G : Nat × Nat × Nat} {o : Nat} {Q : ZH → Prop} {h : ZH} {C S : Nat} {q1 : Option Nat} {q2 : Option Nat} (hl9 : l.stackTraces = false) (hF : fc_X5_urn G o Q h C S q1 q2) :
    zc_M l yX5_urn (ws_ yX5_urn cX5_urn 5 none) 10 D cA P G [.ref o, va_rf q1, va_rf q2] h C S (fun v h' => v = none ∧ Q h') zc_no := by
  refine zc_ofF hl9 rfl (by decide +kernel) (zc_slle (by simp [zc_k1, zc_kI, zc_kR]) (Nat.le_of_ble_eq_true rfl)) ?_
  intro p e s m args below meth c H locs ls X hN hT hH hl
  have hx := X.1
  have hb := X.2.1
  have hown := X.2.2.2.1
  have hts := X.2.2.2.2.1
  have hl : lv_has ls 5 [(0, .ref o), (1, va_rf q1), (2, va_rf q2)] := by
    have h9 := hl
    rw [zc_ags _ (by simp [zc_k1, zc_kI, zc_kR]) 0] at h9
    exact h9
  have hB : 0 + C ≤ C ∧ 0 + S ≤ S := ⟨by omega, by omega⟩
  unfold fc_X5_urn at hF
  refine lv_iconst (v := 0) hx hb dX5_urn_0 (by decide) ?_
  refine lv_istore_n (lv' := [(3, .int 0), (0, .ref o), (1, va_rf q1), (2, va_rf q2)]) hx hb dX5_urn_1 rfl hl (by decide) (by cases q2 <;> rfl) (fun ls hl => ?_)
  obtain ⟨n9, hF⟩ := hF
  exact wc_X5_urn_2 X hN hT n9 h C S q1 q2 0 hF _ _ _ _ _ hB (lv_sub hl [1, 2, 3, 0] rfl) hH
set_option maxHeartbeats 4000000 in
set_option maxRecDepth 100000 in
theorem wc_X5_goes {l : Launch} {D : va_G} {cA : Nat → ClassId} {P : Nat → Prop} {G : Nat × Nat × Nat} {o : Nat} {Q : ZH → Prop} {h : ZH} {C S : Nat} {q1 : Option Nat} (hl9 : l.stackTraces = false) (hF : fc_X5_goes G o Q h C S q1) :
    zc_M l yX5_goes (ws_ yX5_goes cX5_goes 2 none) 9 D cA P G [.ref o, va_rf q1] h C S (fun v h' => v = none ∧ Q h') zc_no := by
  refine zc_ofF hl9 rfl (by decide +kernel) (zc_slle (by simp [zc_k1, zc_kI, zc_kR]) (Nat.le_of_ble_eq_true rfl)) ?_
  intro p e s m args below meth c H locs ls X hN hT hH hl
  have hx := X.1
  have hb := X.2.1
  have hown := X.2.2.2.1
  have hts := X.2.2.2.2.1
  have hl : lv_has ls 2 [(0, .ref o), (1, va_rf q1)] := by
    have h9 := hl
    rw [zc_ags _ (by simp [zc_k1, zc_kI, zc_kR]) 0] at h9
    exact h9
  have hB : 0 + C ≤ C ∧ 0 + S ≤ S := ⟨by omega, by omega⟩
  unfold fc_X5_goes at hF
  refine zq_aload_n hx hb dX5_goes_0 rfl (lv_at hl 1 rfl) ?_
  refine lv_iconst (v := 1) hx hb dX5_goes_1 (by decide) ?_
  obtain ⟨b1, eb1, hF⟩ := hF
  refine zq_st (st2 := [.int 1, .ref b1]) (by rw [eb1]; first | done | rfl) ?_
  obtain ⟨hc, hF⟩ := hF
  refine zc_puti X hH hc 3 703 ("ChurchyardBook$Person", "isGone", "Z", false) (by decide +kernel) rfl q872 (Or.inl rfl) (ty := .boolean) (by decide +kernel) rfl rfl (Or.inl rfl) dX5_goes_2 (fun h2 H locs eh2 hH => ?_)
  have hF := hF h2 eh2
  refine zq_aload_n hx hb dX5_goes_5 rfl (lv_at hl 1 rfl) ?_
  refine lv_aload_n hx hb dX5_goes_6 rfl (lv_at hl 0 rfl) ?_
  obtain ⟨hc, hF⟩ := hF
  refine zc_getf X hH hc 3 203 ("ChurchyardBook$Book", "today", "I", false) (by decide +kernel) (v := .int (zi h2 203 o)) rfl q194 (Or.inl rfl) dX5_goes_7 ?_
  refine lv_null hx hb dX5_goes_10 ?_
  refine lv_iconst (v := 0) hx hb dX5_goes_11 (by decide) ?_
  refine lv_iconst (v := 0) hx hb dX5_goes_12 (by decide) ?_
  refine zq_st (st2 := [.int 0, .int 0, .null, .int (zi h2 203 o), .ref b1]) (by rw [eb1]; first | done | rfl) ?_
  obtain ⟨hc, hF⟩ := hF
  obtain ⟨c3, s4, hc1, hs1, hF⟩ := hF
  refine zc_call (c1 := c3) (s1 := s4) (rest := []) hH hB hc1 hs1 (fun hf => zc_rV X hH hc (by decide) rfl (As := [.int (zi h2 203 o), .null, .int 0, .int 0]) (wc_X16_lies X.2.2.2.2.2.2.2.1 hF) (lw_V q1405 q1308 q1309 q121 q1310) ⟨rfl, by decide, by decide, rfl⟩ ⟨Nat.le_of_ble_eq_true rfl, Nat.le_of_ble_eq_true rfl, Nat.le_of_ble_eq_true rfl⟩ rfl hl.1 (st0 := [.int 0, .int 0, .null, .int (zi h2 203 o), .ref b1]) rfl (Nat.le_of_ble_eq_true rfl) dX5_goes_13 hf) (fun E9 ce9 q9 h9 H locs hx9 => False.elim hx9) (fun v9 h5 H locs hv9 hH hB => ?_)
  obtain ⟨rfl, hF⟩ := hv9
  exact zc_vret X hH hB rfl ⟨rfl, hF⟩ dX5_goes_16
set_option maxHeartbeats 4000000 in
set_option maxRecDepth 100000 in
theorem wc_X5_clear_308 {p : Program} {l : Launch} {e : Env} {s : State} {m : MethodId} {args : Array Value} {below : List Frame} {meth : Method} {c : Code} {D : va_G} {cA : Nat → ClassId} {P : Nat → Prop} {G : Nat × Nat × Nat} {C S : Nat} {o : Nat} {Q : Int32 → ZH → Prop} {XE : String → Nat → ZH → Prop} (X : zc_Cx p l s m args meth c cX5_clear 8 (some .int) "ChurchyardBook$Book" D cA P G) (hN : meth.name = "clear") (hT : c.exceptionTable.toList = tableOf []) :
    ∀ (n : Nat) (h : ZH) (bc bs : Nat) (q2 : Option Nat) (v5 : Int32) (q6 : Option Nat) (v7 : Int32), fc_X5_clear_308 G o Q XE n h bc bs q2 v5 q6 v7 → ∀ (H : Heap) (locs : List Loc) (ls : Array Slot) (cells slots : Nat), cells + bc ≤ C ∧ slots + bs ≤ S → lv_has ls 8 [(0, .ref o), (2, va_rf q2), (5, .int v5), (6, va_rf q6), (7, .int v7)] → zc_H D cA P h s H locs → W p l e (zc_Ro 11 C S) s m args below meth c H locs cells slots (vx_MQ below (zc_Q D cA P (fun v h' => ∃ z : Int32, v = some (.int z) ∧ Q z h')) (zc_X D cA P XE) args s C S P) (F0 m 308 ls []) := by
  have hx := X.1
  have hb := X.2.1
  have hown := X.2.2.2.1
  have hts := X.2.2.2.2.1
  intro n
  induction n with
  | zero =>
    intro h bc bs q2 v5 q6 v7 hF
    exact False.elim hF
  | succ n ih =>
    intro h bc bs q2 v5 q6 v7 hF
    intro H locs ls cells slots hB hl hH
    unfold fc_X5_clear_308 at hF
    refine lv_iload hx hb dX5_clear_308 (lv_at hl 4 rfl) ?_
    refine zq_aload_n hx hb dX5_clear_310 rfl (lv_at hl 1 rfl) ?_
    obtain ⟨b1, eb1, hF⟩ := hF
    refine zq_st (st2 := [.ref b1, .int v7]) (by rw [eb1]; first | done | rfl) ?_
    obtain ⟨hc, hF⟩ := hF
    refine zc_getf X hH hc 3 603 ("ChurchyardBook$Grave", "place", "I", true) (by decide +kernel) (v := .int (zi h 603 b1)) rfl q665 (Or.inl rfl) dX5_clear_311 ?_
    refine zq_aload_n hx hb dX5_clear_314 rfl (lv_at hl 1 rfl) ?_
    refine zq_st (st2 := [.ref b1, .int (zi h 603 b1), .int v7]) (by rw [eb1]; first | done | rfl) ?_
    obtain ⟨hc, hF⟩ := hF
    refine zc_getf X hH hc 4 604 ("ChurchyardBook$Grave", "wide", "I", true) (by decide +kernel) (v := .int (zi h 604 b1)) rfl q669 (Or.inl rfl) dX5_clear_315 ?_
    refine lv_iadd hx hb dX5_clear_318 ?_
    refine lv_icmp_ge (tgt := 334) hx hb dX5_clear_319 (by decide) (fun cd => ?_) (fun cd => ?_)
    · have hF := hF.1 cd
      refine lv_iload hx hb dX5_clear_334 (lv_at hl 2 rfl) ?_
      exact zc_iret X hH hB rfl rfl ⟨_, rfl, hF⟩ dX5_clear_336
    · have hF := hF.2 cd
      refine zq_aload hx hb dX5_clear_322 (lv_at hl 3 rfl) ?_
      refine lv_iload hx hb dX5_clear_324 (lv_at hl 4 rfl) ?_
      refine lv_null hx hb dX5_clear_326 ?_
      obtain ⟨b2, eb2, hF⟩ := hF
      refine zq_st (st2 := [.null, .int v7, .ref b2]) (by rw [eb2]; first | done | rfl) ?_
      obtain ⟨hc, hF⟩ := hF
      obtain ⟨hI, hF⟩ := hF
      obtain ⟨hR, hF⟩ := hF
      refine zc_aast X hH [23, 24, 25, 26] 3 hc (by decide) (r := none) rfl hI hR dX5_clear_327 (fun h3 H locs eh3 hH => ?_)
      have hF := hF h3 eh3
      obtain ⟨x4, ex4⟩ : ∃ z : Int32, z = v7 + 1 := ⟨_, rfl⟩
      have hF := hF x4 ex4
      refine lv_iinc (v := x4) (lv' := [(7, .int x4), (0, .ref o), (2, va_rf q2), (5, .int v5), (6, va_rf q6)]) hx hb dX5_clear_328 hl (k := 4) rfl (by rw [ex4]; rfl) (by decide) (by cases q6 <;> rfl) (fun ls hl => ?_)
      refine lv_goto (tgt := 308) hx hb dX5_clear_331 (by decide) ?_
      exact ih h3 bc bs q2 v5 q6 x4 hF _ _ _ _ _ hB (lv_sub hl [1, 2, 3, 4, 0] rfl) hH
set_option maxHeartbeats 4000000 in
set_option maxRecDepth 100000 in
theorem wc_X5_clear_266 {p : Program} {l : Launch} {e : Env} {s : State} {m : MethodId} {args : Array Value} {below : List Frame} {meth : Method} {c : Code} {D : va_G} {cA : Nat → ClassId} {P : Nat → Prop} {G : Nat × Nat × Nat} {C S : Nat} {o : Nat} {Q : Int32 → ZH → Prop} {XE : String → Nat → ZH → Prop} (X : zc_Cx p l s m args meth c cX5_clear 8 (some .int) "ChurchyardBook$Book" D cA P G) (hN : meth.name = "clear") (hT : c.exceptionTable.toList = tableOf []) :
    ∀ (h : ZH) (bc bs : Nat) (q2 : Option Nat) (v5 : Int32), fc_X5_clear_266 G o Q XE h bc bs q2 v5 → ∀ (H : Heap) (locs : List Loc) (ls : Array Slot) (cells slots : Nat), cells + bc ≤ C ∧ slots + bs ≤ S → lv_has ls 8 [(0, .ref o), (2, va_rf q2), (5, .int v5)] → zc_H D cA P h s H locs → W p l e (zc_Ro 11 C S) s m args below meth c H locs cells slots (vx_MQ below (zc_Q D cA P (fun v h' => ∃ z : Int32, v = some (.int z) ∧ Q z h')) (zc_X D cA P XE) args s C S P) (F0 m 266 ls []) := by
  have hx := X.1
  have hb := X.2.1
  have hown := X.2.2.2.1
  have hts := X.2.2.2.2.1
  intro h bc bs q2 v5 hF
  intro H locs ls cells slots hB hl hH
  unfold fc_X5_clear_266 at hF
  refine zq_aload_n hx hb dX5_clear_266 rfl (lv_at hl 1 rfl) ?_
  obtain ⟨b1, eb1, hF⟩ := hF
  refine zq_st (st2 := [.ref b1]) (by rw [eb1]; first | done | rfl) ?_
  obtain ⟨hc, hF⟩ := hF
  refine zc_getf X hH hc 15 615 ("ChurchyardBook$Grave", "lying", "Ljava/util/ArrayList;", true) (by decide +kernel) (v := va_rf (zr h 615 b1)) rfl q701 (Or.inl rfl) dX5_clear_267 ?_
  obtain ⟨b2, eb2, hF⟩ := hF
  refine zq_st (st2 := [.ref b2]) (by rw [eb2]; first | done | rfl) ?_
  obtain ⟨hc, hF⟩ := hF
  refine zc_call (c1 := 0) (s1 := 0) (rest := []) hH hB (Nat.zero_le _) (Nat.zero_le _) (fun hf => zc_rV X hH hc (by decide) rfl (As := []) (wc_J2_clear X.2.2.2.2.2.2.2.1 hF) (lw_V q1018 q980 q981 q94 q982) ⟨rfl, by decide, by decide, rfl⟩ ⟨Nat.le_of_ble_eq_true rfl, Nat.le_of_ble_eq_true rfl, Nat.le_of_ble_eq_true rfl⟩ rfl hl.1 (st0 := [.ref b2]) rfl (Nat.le_of_ble_eq_true rfl) dX5_clear_270 hf) (fun E9 ce9 q9 h9 H locs hx9 => False.elim hx9) (fun v9 h3 H locs hv9 hH hB => ?_)
  obtain ⟨rfl, hF⟩ := hv9
  refine zq_aload_n hx hb dX5_clear_273 rfl (lv_at hl 1 rfl) ?_
  refine lv_iconst (v := 4) hx hb dX5_clear_274 (by decide) ?_
  refine zq_st (st2 := [.int 4, .ref b1]) (by rw [eb1]; first | done | rfl) ?_
  obtain ⟨hc, hF⟩ := hF
  refine zc_puti X hH hc 6 606 ("ChurchyardBook$Grave", "state", "I", false) (by decide +kernel) rfl q672 (Or.inl rfl) (ty := .int) (by decide +kernel) rfl rfl (Or.inl rfl) dX5_clear_275 (fun h4 H locs eh4 hH => ?_)
  have hF := hF h4 eh4
  refine lv_aload_n hx hb dX5_clear_278 rfl (lv_at hl 0 rfl) ?_
  obtain ⟨hc, hF⟩ := hF
  refine zc_getf X hH hc 0 200 ("ChurchyardBook$Book", "fields", "Ljava/util/ArrayList;", true) (by decide +kernel) (v := va_rf (zr h4 200 o)) rfl q188 (Or.inl rfl) dX5_clear_279 ?_
  refine zq_aload_n hx hb dX5_clear_282 rfl (lv_at hl 1 rfl) ?_
  refine zq_st (st2 := [.ref b1, va_rf (zr h4 200 o)]) (by rw [eb1]; first | done | rfl) ?_
  obtain ⟨hc, hF⟩ := hF
  refine zc_getf X hH hc 1 601 ("ChurchyardBook$Grave", "field", "I", true) (by decide +kernel) (v := .int (zi h4 601 b1)) rfl q659 (Or.inl rfl) dX5_clear_283 ?_
  obtain ⟨b5, eb5, hF⟩ := hF
  refine zq_st (st2 := [.int (zi h4 601 b1), .ref b5]) (by rw [eb5]; first | done | rfl) ?_
  obtain ⟨hc, hF⟩ := hF
  refine zc_call (c1 := 0) (s1 := 0) (rest := []) hH hB (Nat.zero_le _) (Nat.zero_le _) (fun hf => zc_rV X hH hc (by decide) rfl (As := [.int (zi h4 601 b1)]) (wc_J2_get X.2.2.2.2.2.2.2.1 hF) (lw_V q475 q476 q477 q94 q478) ⟨rfl, by decide, by decide, rfl⟩ ⟨Nat.le_of_ble_eq_true rfl, Nat.le_of_ble_eq_true rfl, Nat.le_of_ble_eq_true rfl⟩ rfl hl.1 (st0 := [.int (zi h4 601 b1), .ref b5]) rfl (Nat.le_of_ble_eq_true rfl) dX5_clear_286 hf) (fun E9 ce9 q9 h9 H locs hx9 => False.elim hx9) (fun v9 h9 H locs hv9 hH hB => ?_)
  obtain ⟨r6, rfl, hF, rfl⟩ := hv9
  obtain ⟨hR, hF⟩ := hF
  refine zc_castY X hH (r := r6) [7] "ChurchyardBook$Field" hR (by decide) (by decide +kernel) q353 dX5_clear_289 ?_
  obtain ⟨b7, eb7, hF⟩ := hF
  refine zq_st (st2 := [.ref b7]) (by rw [eb7]; first | done | rfl) ?_
  obtain ⟨hc, hF⟩ := hF
  refine zc_getf X hH hc 1 501 ("ChurchyardBook$Field", "rows", "[[LChurchyardBook$Place;", true) (by decide +kernel) (v := va_rf (zr h4 501 b7)) rfl q365 (Or.inl rfl) dX5_clear_292 ?_
  refine zq_aload_n hx hb dX5_clear_295 rfl (lv_at hl 1 rfl) ?_
  refine zq_st (st2 := [.ref b1, va_rf (zr h4 501 b7)]) (by rw [eb1]; first | done | rfl) ?_
  obtain ⟨hc, hF⟩ := hF
  refine zc_getf X hH hc 2 602 ("ChurchyardBook$Grave", "row", "I", true) (by decide +kernel) (v := .int (zi h4 602 b1)) rfl q662 (Or.inl rfl) dX5_clear_296 ?_
  obtain ⟨b8, eb8, hF⟩ := hF
  refine zq_st (st2 := [.int (zi h4 602 b1), .ref b8]) (by rw [eb8]; first | done | rfl) ?_
  obtain ⟨hc, hF⟩ := hF
  obtain ⟨hI, hF⟩ := hF
  refine zc_aald X hH [27] 7 hc (by decide) hI dX5_clear_299 ?_
  refine zq_top (fun r9 er9 => ?_)
  have hF := hF r9 er9
  refine zq_astore (r := r9) (lv' := [(6, va_rf r9), (0, .ref o), (2, va_rf q2), (5, .int v5)]) hx hb rfl dX5_clear_300 hl (by decide) rfl (fun ls hl => ?_)
  refine zq_aload_n hx hb dX5_clear_302 rfl (lv_at hl 2 rfl) ?_
  refine zq_st (st2 := [.ref b1]) (by rw [eb1]; first | done | rfl) ?_
  obtain ⟨hc, hF⟩ := hF
  refine zc_getf X hH hc 3 603 ("ChurchyardBook$Grave", "place", "I", true) (by decide +kernel) (v := .int (zi h4 603 b1)) rfl q665 (Or.inl rfl) dX5_clear_303 ?_
  refine lv_topi (fun x10 ex10 => ?_)
  have hF := hF x10 ex10
  refine lv_istore (lv' := [(7, .int x10), (6, va_rf r9), (0, .ref o), (2, va_rf q2), (5, .int v5)]) hx hb dX5_clear_306 hl (by decide) (by cases r9 <;> rfl) (fun ls hl => ?_)
  obtain ⟨n9, hF⟩ := hF
  exact wc_X5_clear_308 X hN hT n9 h4 bc bs q2 v5 r9 x10 hF _ _ _ _ _ hB (lv_sub hl [2, 3, 4, 1, 0] rfl) hH
set_option maxHeartbeats 4000000 in
set_option maxRecDepth 100000 in
theorem wc_X5_clear_232 {p : Program} {l : Launch} {e : Env} {s : State} {m : MethodId} {args : Array Value} {below : List Frame} {meth : Method} {c : Code} {D : va_G} {cA : Nat → ClassId} {P : Nat → Prop} {G : Nat × Nat × Nat} {C S : Nat} {o : Nat} {Q : Int32 → ZH → Prop} {XE : String → Nat → ZH → Prop} (X : zc_Cx p l s m args meth c cX5_clear 8 (some .int) "ChurchyardBook$Book" D cA P G) (hN : meth.name = "clear") (hT : c.exceptionTable.toList = tableOf []) :
    ∀ (n : Nat) (h : ZH) (bc bs : Nat) (q2 : Option Nat) (v5 : Int32) (v6 : Int32), fc_X5_clear_232 G o Q XE n h bc bs q2 v5 v6 → ∀ (H : Heap) (locs : List Loc) (ls : Array Slot) (cells slots : Nat), cells + bc ≤ C ∧ slots + bs ≤ S → lv_has ls 8 [(0, .ref o), (2, va_rf q2), (5, .int v5), (6, .int v6)] → zc_H D cA P h s H locs → W p l e (zc_Ro 11 C S) s m args below meth c H locs cells slots (vx_MQ below (zc_Q D cA P (fun v h' => ∃ z : Int32, v = some (.int z) ∧ Q z h')) (zc_X D cA P XE) args s C S P) (F0 m 232 ls []) := by
  have hx := X.1
  have hb := X.2.1
  have hown := X.2.2.2.1
  have hts := X.2.2.2.2.1
  intro n
  induction n with
  | zero =>
    intro h bc bs q2 v5 v6 hF
    exact False.elim hF
  | succ n ih =>
    intro h bc bs q2 v5 v6 hF
    intro H locs ls cells slots hB hl hH
    unfold fc_X5_clear_232 at hF
    refine lv_iload hx hb dX5_clear_232 (lv_at hl 3 rfl) ?_
    refine zq_aload_n hx hb dX5_clear_234 rfl (lv_at hl 1 rfl) ?_
    obtain ⟨b1, eb1, hF⟩ := hF
    refine zq_st (st2 := [.ref b1, .int v6]) (by rw [eb1]; first | done | rfl) ?_
    obtain ⟨hc, hF⟩ := hF
    refine zc_getf X hH hc 15 615 ("ChurchyardBook$Grave", "lying", "Ljava/util/ArrayList;", true) (by decide +kernel) (v := va_rf (zr h 615 b1)) rfl q701 (Or.inl rfl) dX5_clear_235 ?_
    obtain ⟨b2, eb2, hF⟩ := hF
    refine zq_st (st2 := [.ref b2, .int v6]) (by rw [eb2]; first | done | rfl) ?_
    obtain ⟨hc, hF⟩ := hF
    refine zc_call (c1 := 0) (s1 := 0) (rest := [.int v6]) hH hB (Nat.zero_le _) (Nat.zero_le _) (fun hf => zc_rV X hH hc (by decide) rfl (As := []) (wc_J2_size X.2.2.2.2.2.2.2.1 hF) (lw_V q349 q350 q351 q94 q352) ⟨rfl, by decide, by decide, rfl⟩ ⟨Nat.le_of_ble_eq_true rfl, Nat.le_of_ble_eq_true rfl, Nat.le_of_ble_eq_true rfl⟩ rfl hl.1 (st0 := [.ref b2, .int v6]) rfl (Nat.le_of_ble_eq_true rfl) dX5_clear_238 hf) (fun E9 ce9 q9 h9 H locs hx9 => False.elim hx9) (fun v9 h9 H locs hv9 hH hB => ?_)
    obtain ⟨z3, rfl, hF, rfl⟩ := hv9
    refine lv_icmp_ge (tgt := 266) hx hb dX5_clear_241 (by decide) (fun cd => ?_) (fun cd => ?_)
    · have hF := hF.1 cd
      exact wc_X5_clear_266 X hN hT h bc bs q2 v5 hF _ _ _ _ _ hB (lv_sub hl [0, 1, 2] rfl) hH
    · have hF := hF.2 cd
      refine lv_aload_n hx hb dX5_clear_244 rfl (lv_at hl 0 rfl) ?_
      refine zq_aload_n hx hb dX5_clear_245 rfl (lv_at hl 1 rfl) ?_
      refine zq_st (st2 := [.ref b1, .ref o]) (by rw [eb1]; first | done | rfl) ?_
      obtain ⟨hc, hF⟩ := hF
      refine zc_getf X hH hc 15 615 ("ChurchyardBook$Grave", "lying", "Ljava/util/ArrayList;", true) (by decide +kernel) (v := va_rf (zr h 615 b1)) rfl q701 (Or.inl rfl) dX5_clear_246 ?_
      refine lv_iload hx hb dX5_clear_249 (lv_at hl 3 rfl) ?_
      refine zq_st (st2 := [.int v6, .ref b2, .ref o]) (by rw [eb2]; first | done | rfl) ?_
      obtain ⟨hc, hF⟩ := hF
      refine zc_call (c1 := 0) (s1 := 0) (rest := [.ref o]) hH hB (Nat.zero_le _) (Nat.zero_le _) (fun hf => zc_rV X hH hc (by decide) rfl (As := [.int v6]) (wc_J2_get X.2.2.2.2.2.2.2.1 hF) (lw_V q475 q476 q477 q94 q478) ⟨rfl, by decide, by decide, rfl⟩ ⟨Nat.le_of_ble_eq_true rfl, Nat.le_of_ble_eq_true rfl, Nat.le_of_ble_eq_true rfl⟩ rfl hl.1 (st0 := [.int v6, .ref b2, .ref o]) rfl (Nat.le_of_ble_eq_true rfl) dX5_clear_251 hf) (fun E9 ce9 q9 h9 H locs hx9 => False.elim hx9) (fun v9 h9 H locs hv9 hH hB => ?_)
      obtain ⟨r4, rfl, hF, rfl⟩ := hv9
      obtain ⟨hR, hF⟩ := hF
      refine zc_castY X hH (r := r4) [14] "ChurchyardBook$Person" hR (by decide) (by decide +kernel) q853 dX5_clear_254 ?_
      obtain ⟨hc, hF⟩ := hF
      obtain ⟨c5, s6, hc1, hs1, hF⟩ := hF
      refine zc_call (c1 := c5) (s1 := s6) (rest := []) hH hB hc1 hs1 (fun hf => zc_rV X hH hc (by decide) rfl (As := [va_rf r4]) (wc_X5_goes X.2.2.2.2.2.2.2.1 hF) (lw_V q1401 q1403 qs22 q91 q1404) ⟨rfl, by decide, by decide, rfl⟩ ⟨Nat.le_of_ble_eq_true rfl, Nat.le_of_ble_eq_true rfl, Nat.le_of_ble_eq_true rfl⟩ rfl hl.1 (st0 := [va_rf r4, .ref o]) rfl (Nat.le_of_ble_eq_true rfl) dX5_clear_257 hf) (fun E9 ce9 q9 h9 H locs hx9 => False.elim hx9) (fun v9 h7 H locs hv9 hH hB => ?_)
      obtain ⟨rfl, hF⟩ := hv9
      obtain ⟨x8, ex8⟩ : ∃ z : Int32, z = v6 + 1 := ⟨_, rfl⟩
      have hF := hF x8 ex8
      refine lv_iinc (v := x8) (lv' := [(6, .int x8), (0, .ref o), (2, va_rf q2), (5, .int v5)]) hx hb dX5_clear_260 hl (k := 3) rfl (by rw [ex8]; rfl) (by decide) rfl (fun ls hl => ?_)
      refine lv_goto (tgt := 232) hx hb dX5_clear_263 (by decide) ?_
      exact ih h7 (bc - c5) (bs - s6) q2 v5 x8 hF _ _ _ _ _ hB (lv_sub hl [1, 2, 3, 0] rfl) hH
set_option maxHeartbeats 4000000 in
set_option maxRecDepth 100000 in
theorem wc_X5_clear_199 {p : Program} {l : Launch} {e : Env} {s : State} {m : MethodId} {args : Array Value} {below : List Frame} {meth : Method} {c : Code} {D : va_G} {cA : Nat → ClassId} {P : Nat → Prop} {G : Nat × Nat × Nat} {C S : Nat} {o : Nat} {Q : Int32 → ZH → Prop} {XE : String → Nat → ZH → Prop} (X : zc_Cx p l s m args meth c cX5_clear 8 (some .int) "ChurchyardBook$Book" D cA P G) (hN : meth.name = "clear") (hT : c.exceptionTable.toList = tableOf []) :
    ∀ (n : Nat) (h : ZH) (bc bs : Nat) (q2 : Option Nat) (v5 : Int32) (v6 : Int32), fc_X5_clear_199 G o Q XE n h bc bs q2 v5 v6 → ∀ (H : Heap) (locs : List Loc) (ls : Array Slot) (cells slots : Nat), cells + bc ≤ C ∧ slots + bs ≤ S → lv_has ls 8 [(0, .ref o), (2, va_rf q2), (5, .int v5), (6, .int v6)] → zc_H D cA P h s H locs → W p l e (zc_Ro 11 C S) s m args below meth c H locs cells slots (vx_MQ below (zc_Q D cA P (fun v h' => ∃ z : Int32, v = some (.int z) ∧ Q z h')) (zc_X D cA P XE) args s C S P) (F0 m 199 ls []) := by
  have hx := X.1
  have hb := X.2.1
  have hown := X.2.2.2.1
  have hts := X.2.2.2.2.1
  intro n
  induction n with
  | zero =>
    intro h bc bs q2 v5 v6 hF
    exact False.elim hF
  | succ n ih =>
    intro h bc bs q2 v5 v6 hF
    intro H locs ls cells slots hB hl hH
    unfold fc_X5_clear_199 at hF
    refine lv_iload hx hb dX5_clear_199 (lv_at hl 3 rfl) ?_
    refine zq_aload_n hx hb dX5_clear_201 rfl (lv_at hl 1 rfl) ?_
    obtain ⟨b1, eb1, hF⟩ := hF
    refine zq_st (st2 := [.ref b1, .int v6]) (by rw [eb1]; first | done | rfl) ?_
    refine zc_call (c1 := 0) (s1 := 0) (rest := [.int v6]) hH hB (Nat.zero_le _) (Nat.zero_le _) (fun hf => rv_columns_8 X hH q1396 hF ⟨Nat.le_of_ble_eq_true rfl, Nat.le_of_ble_eq_true rfl, Nat.le_of_ble_eq_true rfl⟩ hl.1 (st0 := [.ref b1, .int v6]) rfl (Nat.le_of_ble_eq_true rfl) dX5_clear_202 hf) (fun E9 ce9 q9 h9 H locs hx9 => False.elim hx9) (fun v9 h9 H locs hv9 hH hB => ?_)
    obtain ⟨z2, rfl, hF, rfl⟩ := hv9
    refine lv_icmp_ge (tgt := 226) hx hb dX5_clear_205 (by decide) (fun cd => ?_) (fun cd => ?_)
    · have hF := hF.1 cd
      refine lv_goto (tgt := 266) hx hb dX5_clear_226 (by decide) ?_
      exact wc_X5_clear_266 X hN hT h bc bs q2 v5 hF _ _ _ _ _ hB (lv_sub hl [0, 1, 2] rfl) hH
    · have hF := hF.2 cd
      refine lv_aload_n hx hb dX5_clear_208 rfl (lv_at hl 0 rfl) ?_
      refine zq_aload_n hx hb dX5_clear_209 rfl (lv_at hl 1 rfl) ?_
      refine zq_aload_n hx hb dX5_clear_210 rfl (lv_at hl 1 rfl) ?_
      refine lv_iload hx hb dX5_clear_211 (lv_at hl 3 rfl) ?_
      refine lv_iconst (v := 0) hx hb dX5_clear_213 (by decide) ?_
      refine zq_st (st2 := [.int 0, .int v6, .ref b1, va_rf q2, .ref o]) (by rw [eb1]; first | done | rfl) ?_
      refine zc_call (c1 := 0) (s1 := 0) (rest := [va_rf q2, .ref o]) hH hB (Nat.zero_le _) (Nat.zero_le _) (fun hf => rv_in_9 X hH q1337 hF ⟨Nat.le_of_ble_eq_true rfl, Nat.le_of_ble_eq_true rfl, Nat.le_of_ble_eq_true rfl⟩ hl.1 (st0 := [.int 0, .int v6, .ref b1, va_rf q2, .ref o]) rfl (by simp only [List.map_cons, List.map_nil, List.sum_cons, List.sum_nil, zc_k1]; exact Nat.le_of_ble_eq_true rfl) dX5_clear_214 hf) (fun E9 ce9 q9 h9 H locs hx9 => False.elim hx9) (fun v9 h9 H locs hv9 hH hB => ?_)
      obtain ⟨r3, rfl, hF, rfl⟩ := hv9
      obtain ⟨hc, hF⟩ := hF
      obtain ⟨c4, s5, hc1, hs1, hF⟩ := hF
      refine zc_call (c1 := c4) (s1 := s5) (rest := []) hH hB hc1 hs1 (fun hf => zc_rV X hH hc (by decide) rfl (As := [va_rf q2, va_rf r3]) (wc_X5_urn X.2.2.2.2.2.2.2.1 hF) (lw_V q1397 q1399 qs21 q91 q1400) ⟨rfl, by decide, by decide, rfl⟩ ⟨Nat.le_of_ble_eq_true rfl, Nat.le_of_ble_eq_true rfl, Nat.le_of_ble_eq_true rfl⟩ rfl hl.1 (st0 := [va_rf r3, va_rf q2, .ref o]) rfl (Nat.le_of_ble_eq_true rfl) dX5_clear_217 hf) (fun E9 ce9 q9 h9 H locs hx9 => False.elim hx9) (fun v9 h6 H locs hv9 hH hB => ?_)
      obtain ⟨rfl, hF⟩ := hv9
      obtain ⟨x7, ex7⟩ : ∃ z : Int32, z = v6 + 1 := ⟨_, rfl⟩
      have hF := hF x7 ex7
      refine lv_iinc (v := x7) (lv' := [(6, .int x7), (0, .ref o), (2, va_rf q2), (5, .int v5)]) hx hb dX5_clear_220 hl (k := 3) rfl (by rw [ex7]; rfl) (by decide) rfl (fun ls hl => ?_)
      refine lv_goto (tgt := 199) hx hb dX5_clear_223 (by decide) ?_
      exact ih h6 (bc - c4) (bs - s5) q2 v5 x7 hF _ _ _ _ _ hB (lv_sub hl [1, 2, 3, 0] rfl) hH
set_option maxHeartbeats 4000000 in
set_option maxRecDepth 100000 in
theorem wc_X5_clear_190 {p : Program} {l : Launch} {e : Env} {s : State} {m : MethodId} {args : Array Value} {below : List Frame} {meth : Method} {c : Code} {D : va_G} {cA : Nat → ClassId} {P : Nat → Prop} {G : Nat × Nat × Nat} {C S : Nat} {o : Nat} {Q : Int32 → ZH → Prop} {XE : String → Nat → ZH → Prop} (X : zc_Cx p l s m args meth c cX5_clear 8 (some .int) "ChurchyardBook$Book" D cA P G) (hN : meth.name = "clear") (hT : c.exceptionTable.toList = tableOf []) :
    ∀ (h : ZH) (bc bs : Nat) (q2 : Option Nat) (v3 : Int32) (t0 : Int32), fc_X5_clear_190 G o Q XE h bc bs q2 v3 t0 → ∀ (H : Heap) (locs : List Loc) (ls : Array Slot) (cells slots : Nat), cells + bc ≤ C ∧ slots + bs ≤ S → lv_has ls 8 [(0, .ref o), (2, va_rf q2), (3, .int v3)] → zc_H D cA P h s H locs → W p l e (zc_Ro 11 C S) s m args below meth c H locs cells slots (vx_MQ below (zc_Q D cA P (fun v h' => ∃ z : Int32, v = some (.int z) ∧ Q z h')) (zc_X D cA P XE) args s C S P) (F0 m 190 ls [.int t0]) := by
  have hx := X.1
  have hb := X.2.1
  have hown := X.2.2.2.1
  have hts := X.2.2.2.2.1
  intro h bc bs q2 v3 t0 hF
  intro H locs ls cells slots hB hl hH
  unfold fc_X5_clear_190 at hF
  refine lv_istore (lv' := [(5, .int t0), (0, .ref o), (2, va_rf q2), (3, .int v3)]) hx hb dX5_clear_190 hl (by decide) rfl (fun ls hl => ?_)
  refine lv_iload_n hx hb dX5_clear_192 rfl (lv_at hl 3 rfl) ?_
  refine lv_if_eq (tgt := 229) hx hb dX5_clear_193 (by decide) (fun cd => ?_) (fun cd => ?_)
  · have hF := hF.1 cd
    refine lv_iconst (v := 0) hx hb dX5_clear_229 (by decide) ?_
    refine lv_istore (lv' := [(6, .int 0), (5, .int t0), (0, .ref o), (2, va_rf q2), (3, .int v3)]) hx hb dX5_clear_230 hl (by decide) rfl (fun ls hl => ?_)
    obtain ⟨n9, hF⟩ := hF
    exact wc_X5_clear_232 X hN hT n9 h bc bs q2 t0 0 hF _ _ _ _ _ hB (lv_sub hl [2, 3, 1, 0] rfl) hH
  · have hF := hF.2 cd
    refine lv_iconst (v := 0) hx hb dX5_clear_196 (by decide) ?_
    refine lv_istore (lv' := [(6, .int 0), (5, .int t0), (0, .ref o), (2, va_rf q2), (3, .int v3)]) hx hb dX5_clear_197 hl (by decide) rfl (fun ls hl => ?_)
    obtain ⟨n9, hF⟩ := hF
    exact wc_X5_clear_199 X hN hT n9 h bc bs q2 t0 0 hF _ _ _ _ _ hB (lv_sub hl [2, 3, 1, 0] rfl) hH
set_option maxHeartbeats 4000000 in
set_option maxRecDepth 100000 in
theorem wc_X5_clear_170 {p : Program} {l : Launch} {e : Env} {s : State} {m : MethodId} {args : Array Value} {below : List Frame} {meth : Method} {c : Code} {D : va_G} {cA : Nat → ClassId} {P : Nat → Prop} {G : Nat × Nat × Nat} {C S : Nat} {o : Nat} {Q : Int32 → ZH → Prop} {XE : String → Nat → ZH → Prop} (X : zc_Cx p l s m args meth c cX5_clear 8 (some .int) "ChurchyardBook$Book" D cA P G) (hN : meth.name = "clear") (hT : c.exceptionTable.toList = tableOf []) :
    ∀ (h : ZH) (bc bs : Nat) (q2 : Option Nat) (v3 : Int32) (t0 : Int32), fc_X5_clear_170 G o Q XE h bc bs q2 v3 t0 → ∀ (H : Heap) (locs : List Loc) (ls : Array Slot) (cells slots : Nat), cells + bc ≤ C ∧ slots + bs ≤ S → lv_has ls 8 [(0, .ref o), (2, va_rf q2), (3, .int v3)] → zc_H D cA P h s H locs → W p l e (zc_Ro 11 C S) s m args below meth c H locs cells slots (vx_MQ below (zc_Q D cA P (fun v h' => ∃ z : Int32, v = some (.int z) ∧ Q z h')) (zc_X D cA P XE) args s C S P) (F0 m 170 ls [.int t0]) := by
  have hx := X.1
  have hb := X.2.1
  have hown := X.2.2.2.1
  have hts := X.2.2.2.2.1
  intro h bc bs q2 v3 t0 hF
  intro H locs ls cells slots hB hl hH
  unfold fc_X5_clear_170 at hF
  refine lv_bipush (v := (-4)) hx hb dX5_clear_170 (by decide) ?_
  obtain ⟨c1, s2, hc1, hs1, hF⟩ := hF
  refine zc_call (c1 := c1) (s1 := s2) (rest := []) hH hB hc1 hs1 (fun hf => zc_rSN X hH (As := [.int t0, .int (-4)]) (host := "ChurchyardBook") (wc_X1_need X.2.2.2.2.2.2.2.1 hF) (lw_meth q265) (by decide +kernel) q87 q264 ⟨by decide, by decide, rfl⟩ ⟨Nat.le_of_ble_eq_true rfl, Nat.le_of_ble_eq_true rfl, Nat.le_of_ble_eq_true rfl⟩ rfl hl.1 (st0 := [.int (-4), .int t0]) rfl (Nat.le_of_ble_eq_true rfl) dX5_clear_172 hf) (fun E9 ce9 q3 h4 H locs hx9 hH hB hce hcv hcl => ?_) (fun v9 h9 H locs hv9 hH hB => ?_)
  · exact zc_out X hH hB (by rw [hT]; intro x hx9; cases hx9) hce hcv hcl hx9
  obtain ⟨rfl, hF, rfl⟩ := hv9
  refine lv_iload_n hx hb dX5_clear_175 rfl (lv_at hl 2 rfl) ?_
  refine lv_if_eq (tgt := 189) hx hb dX5_clear_176 (by decide) (fun cd => ?_) (fun cd => ?_)
  · have hF := hF.1 cd
    refine lv_iconst (v := 0) hx hb dX5_clear_189 (by decide) ?_
    exact wc_X5_clear_190 X hN hT h (bc - c1) (bs - s2) q2 v3 0 hF _ _ _ _ _ hB (lv_sub hl [0, 1, 2] rfl) hH
  · have hF := hF.2 cd
    refine zq_aload_n hx hb dX5_clear_179 rfl (lv_at hl 1 rfl) ?_
    obtain ⟨b5, eb5, hF⟩ := hF
    refine zq_st (st2 := [.ref b5]) (by rw [eb5]; first | done | rfl) ?_
    obtain ⟨hc, hF⟩ := hF
    refine zc_getf X hH hc 15 615 ("ChurchyardBook$Grave", "lying", "Ljava/util/ArrayList;", true) (by decide +kernel) (v := va_rf (zr h 615 b5)) rfl q701 (Or.inl rfl) dX5_clear_180 ?_
    obtain ⟨b6, eb6, hF⟩ := hF
    refine zq_st (st2 := [.ref b6]) (by rw [eb6]; first | done | rfl) ?_
    obtain ⟨hc, hF⟩ := hF
    refine zc_call (c1 := 0) (s1 := 0) (rest := []) hH hB (Nat.zero_le _) (Nat.zero_le _) (fun hf => zc_rV X hH hc (by decide) rfl (As := []) (wc_J2_size X.2.2.2.2.2.2.2.1 hF) (lw_V q349 q350 q351 q94 q352) ⟨rfl, by decide, by decide, rfl⟩ ⟨Nat.le_of_ble_eq_true rfl, Nat.le_of_ble_eq_true rfl, Nat.le_of_ble_eq_true rfl⟩ rfl hl.1 (st0 := [.ref b6]) rfl (Nat.le_of_ble_eq_true rfl) dX5_clear_183 hf) (fun E9 ce9 q9 h9 H locs hx9 => False.elim hx9) (fun v9 h9 H locs hv9 hH hB => ?_)
    obtain ⟨z7, rfl, hF, rfl⟩ := hv9
    refine lv_goto (tgt := 190) hx hb dX5_clear_186 (by decide) ?_
    exact wc_X5_clear_190 X hN hT h (bc - c1) (bs - s2) q2 v3 z7 hF _ _ _ _ _ hB (lv_sub hl [0, 1, 2] rfl) hH
set_option maxHeartbeats 4000000 in
set_option maxRecDepth 100000 in
theorem wc_X5_clear_165 {p : Program} {l : Launch} {e : Env} {s : State} {m : MethodId} {args : Array Value} {below : List Frame} {meth : Method} {c : Code} {D : va_G} {cA : Nat → ClassId} {P : Nat → Prop} {G : Nat × Nat × Nat} {C S : Nat} {o : Nat} {Q : Int32 → ZH → Prop} {XE : String → Nat → ZH → Prop} (X : zc_Cx p l s m args meth c cX5_clear 8 (some .int) "ChurchyardBook$Book" D cA P G) (hN : meth.name = "clear") (hT : c.exceptionTable.toList = tableOf []) :
    ∀ (h : ZH) (bc bs : Nat) (q2 : Option Nat) (v3 : Int32), fc_X5_clear_165 G o Q XE h bc bs q2 v3 → ∀ (H : Heap) (locs : List Loc) (ls : Array Slot) (cells slots : Nat), cells + bc ≤ C ∧ slots + bs ≤ S → lv_has ls 8 [(0, .ref o), (2, va_rf q2), (3, .int v3)] → zc_H D cA P h s H locs → W p l e (zc_Ro 11 C S) s m args below meth c H locs cells slots (vx_MQ below (zc_Q D cA P (fun v h' => ∃ z : Int32, v = some (.int z) ∧ Q z h')) (zc_X D cA P XE) args s C S P) (F0 m 165 ls []) := by
  have hx := X.1
  have hb := X.2.1
  have hown := X.2.2.2.1
  have hts := X.2.2.2.2.1
  intro h bc bs q2 v3 hF
  intro H locs ls cells slots hB hl hH
  unfold fc_X5_clear_165 at hF
  refine lv_iconst (v := 1) hx hb dX5_clear_165 (by decide) ?_
  refine lv_goto (tgt := 170) hx hb dX5_clear_166 (by decide) ?_
  exact wc_X5_clear_170 X hN hT h bc bs q2 v3 1 hF _ _ _ _ _ hB (lv_sub hl [0, 1, 2] rfl) hH
set_option maxHeartbeats 4000000 in
set_option maxRecDepth 100000 in
theorem wc_X5_clear_140 {p : Program} {l : Launch} {e : Env} {s : State} {m : MethodId} {args : Array Value} {below : List Frame} {meth : Method} {c : Code} {D : va_G} {cA : Nat → ClassId} {P : Nat → Prop} {G : Nat × Nat × Nat} {C S : Nat} {o : Nat} {Q : Int32 → ZH → Prop} {XE : String → Nat → ZH → Prop} {K78 : ZH → Nat → Nat → Option Nat → Int32 → Int32 → Int32 → Prop} (X : zc_Cx p l s m args meth c cX5_clear 8 (some .int) "ChurchyardBook$Book" D cA P G) (hN : meth.name = "clear") (hT : c.exceptionTable.toList = tableOf []) (hK78 : ∀ (h : ZH) (bc bs : Nat) (q2 : Option Nat) (v3 : Int32) (v4 : Int32) (v5 : Int32), K78 h bc bs q2 v3 v4 v5 → ∀ (H : Heap) (locs : List Loc) (ls : Array Slot) (cells slots : Nat), cells + bc ≤ C ∧ slots + bs ≤ S → lv_has ls 8 [(0, .ref o), (2, va_rf q2), (3, .int v3), (4, .int v4), (5, .int v5)] → zc_H D cA P h s H locs → W p l e (zc_Ro 11 C S) s m args below meth c H locs cells slots (vx_MQ below (zc_Q D cA P (fun v h' => ∃ z : Int32, v = some (.int z) ∧ Q z h')) (zc_X D cA P XE) args s C S P) (F0 m 78 ls [])) :
    ∀ (h : ZH) (bc bs : Nat) (q2 : Option Nat) (v3 : Int32) (v5 : Int32) (t0 : Int32) (t1 : Int32), fc_X5_clear_140 G o Q XE K78 h bc bs q2 v3 v5 t0 t1 → ∀ (H : Heap) (locs : List Loc) (ls : Array Slot) (cells slots : Nat), cells + bc ≤ C ∧ slots + bs ≤ S → lv_has ls 8 [(0, .ref o), (2, va_rf q2), (3, .int v3), (5, .int v5)] → zc_H D cA P h s H locs → W p l e (zc_Ro 11 C S) s m args below meth c H locs cells slots (vx_MQ below (zc_Q D cA P (fun v h' => ∃ z : Int32, v = some (.int z) ∧ Q z h')) (zc_X D cA P XE) args s C S P) (F0 m 140 ls [.int t1, .int t0]) := by
  have hx := X.1
  have hb := X.2.1
  have hown := X.2.2.2.1
  have hts := X.2.2.2.2.1
  intro h bc bs q2 v3 v5 t0 t1 hF
  intro H locs ls cells slots hB hl hH
  unfold fc_X5_clear_140 at hF
  refine lv_iadd hx hb dX5_clear_140 ?_
  refine lv_topi (fun x1 ex1 => ?_)
  have hF := hF x1 ex1
  refine lv_istore (lv' := [(4, .int x1), (0, .ref o), (2, va_rf q2), (3, .int v3), (5, .int v5)]) hx hb dX5_clear_141 hl (by decide) rfl (fun ls hl => ?_)
  obtain ⟨x2, ex2⟩ : ∃ z : Int32, z = v5 + 1 := ⟨_, rfl⟩
  have hF := hF x2 ex2
  refine lv_iinc (v := x2) (lv' := [(5, .int x2), (4, .int x1), (0, .ref o), (2, va_rf q2), (3, .int v3)]) hx hb dX5_clear_143 hl (k := 4) rfl (by rw [ex2]; rfl) (by decide) rfl (fun ls hl => ?_)
  refine lv_goto (tgt := 78) hx hb dX5_clear_146 (by decide) ?_
  exact hK78 h bc bs q2 v3 x1 x2 hF _ _ _ _ _ hB (lv_sub hl [2, 3, 4, 1, 0] rfl) hH
set_option maxHeartbeats 4000000 in
set_option maxRecDepth 100000 in
theorem wc_X5_clear_78 {p : Program} {l : Launch} {e : Env} {s : State} {m : MethodId} {args : Array Value} {below : List Frame} {meth : Method} {c : Code} {D : va_G} {cA : Nat → ClassId} {P : Nat → Prop} {G : Nat × Nat × Nat} {C S : Nat} {o : Nat} {Q : Int32 → ZH → Prop} {XE : String → Nat → ZH → Prop} (X : zc_Cx p l s m args meth c cX5_clear 8 (some .int) "ChurchyardBook$Book" D cA P G) (hN : meth.name = "clear") (hT : c.exceptionTable.toList = tableOf []) :
    ∀ (n : Nat) (h : ZH) (bc bs : Nat) (q2 : Option Nat) (v3 : Int32) (v4 : Int32) (v5 : Int32), fc_X5_clear_78 G o Q XE n h bc bs q2 v3 v4 v5 → ∀ (H : Heap) (locs : List Loc) (ls : Array Slot) (cells slots : Nat), cells + bc ≤ C ∧ slots + bs ≤ S → lv_has ls 8 [(0, .ref o), (2, va_rf q2), (3, .int v3), (4, .int v4), (5, .int v5)] → zc_H D cA P h s H locs → W p l e (zc_Ro 11 C S) s m args below meth c H locs cells slots (vx_MQ below (zc_Q D cA P (fun v h' => ∃ z : Int32, v = some (.int z) ∧ Q z h')) (zc_X D cA P XE) args s C S P) (F0 m 78 ls []) := by
  have hx := X.1
  have hb := X.2.1
  have hown := X.2.2.2.1
  have hts := X.2.2.2.2.1
  intro n
  induction n with
  | zero =>
    intro h bc bs q2 v3 v4 v5 hF
    exact False.elim hF
  | succ n ih =>
    intro h bc bs q2 v3 v4 v5 hF
    intro H locs ls cells slots hB hl hH
    unfold fc_X5_clear_78 at hF
    refine lv_iload hx hb dX5_clear_78 (lv_at hl 4 rfl) ?_
    refine lv_aload_n hx hb dX5_clear_80 rfl (lv_at hl 0 rfl) ?_
    obtain ⟨hc, hF⟩ := hF
    refine zc_getf X hH hc 1 201 ("ChurchyardBook$Book", "graves", "Ljava/util/ArrayList;", true) (by decide +kernel) (v := va_rf (zr h 201 o)) rfl q190 (Or.inl rfl) dX5_clear_81 ?_
    obtain ⟨b1, eb1, hF⟩ := hF
    refine zq_st (st2 := [.ref b1, .int v5]) (by rw [eb1]; first | done | rfl) ?_
    obtain ⟨hc, hF⟩ := hF
    refine zc_call (c1 := 0) (s1 := 0) (rest := [.int v5]) hH hB (Nat.zero_le _) (Nat.zero_le _) (fun hf => zc_rV X hH hc (by decide) rfl (As := []) (wc_J2_size X.2.2.2.2.2.2.2.1 hF) (lw_V q349 q350 q351 q94 q352) ⟨rfl, by decide, by decide, rfl⟩ ⟨Nat.le_of_ble_eq_true rfl, Nat.le_of_ble_eq_true rfl, Nat.le_of_ble_eq_true rfl⟩ rfl hl.1 (st0 := [.ref b1, .int v5]) rfl (Nat.le_of_ble_eq_true rfl) dX5_clear_84 hf) (fun E9 ce9 q9 h9 H locs hx9 => False.elim hx9) (fun v9 h9 H locs hv9 hH hB => ?_)
    obtain ⟨z2, rfl, hF, rfl⟩ := hv9
    refine lv_icmp_ge (tgt := 149) hx hb dX5_clear_87 (by decide) (fun cd => ?_) (fun cd => ?_)
    · have hF := hF.1 cd
      refine lv_iload_n hx hb dX5_clear_149 rfl (lv_at hl 2 rfl) ?_
      refine lv_if_eq (tgt := 165) hx hb dX5_clear_150 (by decide) (fun cd => ?_) (fun cd => ?_)
      · have hF := hF.1 cd
        exact wc_X5_clear_165 X hN hT h bc bs q2 v3 hF _ _ _ _ _ hB (lv_sub hl [0, 1, 2] rfl) hH
      · have hF := hF.2 cd
        refine lv_iload hx hb dX5_clear_153 (lv_at hl 3 rfl) ?_
        refine zq_aload_n hx hb dX5_clear_155 rfl (lv_at hl 1 rfl) ?_
        obtain ⟨b3, eb3, hF⟩ := hF
        refine zq_st (st2 := [.ref b3, .int v4]) (by rw [eb3]; first | done | rfl) ?_
        obtain ⟨hc, hF⟩ := hF
        refine zc_getf X hH hc 15 615 ("ChurchyardBook$Grave", "lying", "Ljava/util/ArrayList;", true) (by decide +kernel) (v := va_rf (zr h 615 b3)) rfl q701 (Or.inl rfl) dX5_clear_156 ?_
        obtain ⟨b4, eb4, hF⟩ := hF
        refine zq_st (st2 := [.ref b4, .int v4]) (by rw [eb4]; first | done | rfl) ?_
        obtain ⟨hc, hF⟩ := hF
        refine zc_call (c1 := 0) (s1 := 0) (rest := [.int v4]) hH hB (Nat.zero_le _) (Nat.zero_le _) (fun hf => zc_rV X hH hc (by decide) rfl (As := []) (wc_J2_size X.2.2.2.2.2.2.2.1 hF) (lw_V q349 q350 q351 q94 q352) ⟨rfl, by decide, by decide, rfl⟩ ⟨Nat.le_of_ble_eq_true rfl, Nat.le_of_ble_eq_true rfl, Nat.le_of_ble_eq_true rfl⟩ rfl hl.1 (st0 := [.ref b4, .int v4]) rfl (Nat.le_of_ble_eq_true rfl) dX5_clear_159 hf) (fun E9 ce9 q9 h9 H locs hx9 => False.elim hx9) (fun v9 h9 H locs hv9 hH hB => ?_)
        obtain ⟨z5, rfl, hF, rfl⟩ := hv9
        refine lv_icmp_lt (tgt := 169) hx hb dX5_clear_162 (by decide) (fun cd => ?_) (fun cd => ?_)
        · have hF := hF.1 cd
          refine lv_iconst (v := 0) hx hb dX5_clear_169 (by decide) ?_
          exact wc_X5_clear_170 X hN hT h bc bs q2 v3 0 hF _ _ _ _ _ hB (lv_sub hl [0, 1, 2] rfl) hH
        · have hF := hF.2 cd
          exact wc_X5_clear_165 X hN hT h bc bs q2 v3 hF _ _ _ _ _ hB (lv_sub hl [0, 1, 2] rfl) hH
    · have hF := hF.2 cd
      refine lv_iload hx hb dX5_clear_90 (lv_at hl 3 rfl) ?_
      refine lv_aload_n hx hb dX5_clear_92 rfl (lv_at hl 0 rfl) ?_
      refine lv_aload_n hx hb dX5_clear_93 rfl (lv_at hl 0 rfl) ?_
      obtain ⟨hc, hF⟩ := hF
      refine zc_getf X hH hc 1 201 ("ChurchyardBook$Book", "graves", "Ljava/util/ArrayList;", true) (by decide +kernel) (v := va_rf (zr h 201 o)) rfl q190 (Or.inl rfl) dX5_clear_94 ?_
      refine lv_iload hx hb dX5_clear_97 (lv_at hl 4 rfl) ?_
      refine zq_st (st2 := [.int v5, .ref b1, .ref o, .int v4]) (by rw [eb1]; first | done | rfl) ?_
      obtain ⟨hc, hF⟩ := hF
      refine zc_call (c1 := 0) (s1 := 0) (rest := [.ref o, .int v4]) hH hB (Nat.zero_le _) (Nat.zero_le _) (fun hf => zc_rV X hH hc (by decide) rfl (As := [.int v5]) (wc_J2_get X.2.2.2.2.2.2.2.1 hF) (lw_V q475 q476 q477 q94 q478) ⟨rfl, by decide, by decide, rfl⟩ ⟨Nat.le_of_ble_eq_true rfl, Nat.le_of_ble_eq_true rfl, Nat.le_of_ble_eq_true rfl⟩ rfl hl.1 (st0 := [.int v5, .ref b1, .ref o, .int v4]) rfl (Nat.le_of_ble_eq_true rfl) dX5_clear_99 hf) (fun E9 ce9 q9 h9 H locs hx9 => False.elim hx9) (fun v9 h9 H locs hv9 hH hB => ?_)
      obtain ⟨r6, rfl, hF, rfl⟩ := hv9
      obtain ⟨hR, hF⟩ := hF
      refine zc_castY X hH (r := r6) [8, 9, 10, 11, 12, 13] "ChurchyardBook$Grave" hR (by decide) (by decide +kernel) q531 dX5_clear_102 ?_
      refine zq_aload_n hx hb dX5_clear_105 rfl (lv_at hl 1 rfl) ?_
      obtain ⟨b7, eb7, hF⟩ := hF
      refine zq_st (st2 := [.ref b7, va_rf r6, .ref o, .int v4]) (by rw [eb7]; first | done | rfl) ?_
      obtain ⟨hc, hF⟩ := hF
      refine zc_getf X hH hc 1 601 ("ChurchyardBook$Grave", "field", "I", true) (by decide +kernel) (v := .int (zi h 601 b7)) rfl q659 (Or.inl rfl) dX5_clear_106 ?_
      obtain ⟨hc, hF⟩ := hF
      refine zc_call (c1 := 0) (s1 := 0) (rest := [.int v4]) hH hB (Nat.zero_le _) (Nat.zero_le _) (fun hf => zc_rV X hH hc (by decide) rfl (As := [va_rf r6, .int (zi h 601 b7)]) (wc_X5_isMeadow X.2.2.2.2.2.2.2.1 hF) (lw_V q1392 q1394 qs20 q91 q1395) ⟨rfl, by decide, by decide, rfl⟩ ⟨Nat.le_of_ble_eq_true rfl, Nat.le_of_ble_eq_true rfl, Nat.le_of_ble_eq_true rfl⟩ rfl hl.1 (st0 := [.int (zi h 601 b7), va_rf r6, .ref o, .int v4]) rfl (Nat.le_of_ble_eq_true rfl) dX5_clear_109 hf) (fun E9 ce9 q9 h9 H locs hx9 => False.elim hx9) (fun v9 h9 H locs hv9 hH hB => ?_)
      obtain ⟨z8, rfl, hF, rfl⟩ := hv9
      refine lv_if_eq (tgt := 139) hx hb dX5_clear_112 (by decide) (fun cd => ?_) (fun cd => ?_)
      · have hF := hF.1 cd
        refine lv_iconst (v := 0) hx hb dX5_clear_139 (by decide) ?_
        exact wc_X5_clear_140 X hN hT ih h bc bs q2 v3 v5 v4 0 hF _ _ _ _ _ hB (lv_sub hl [0, 1, 2, 4] rfl) hH
      · have hF := hF.2 cd
        refine lv_bipush (v := 40) hx hb dX5_clear_115 (by decide) ?_
        refine lv_aload_n hx hb dX5_clear_117 rfl (lv_at hl 0 rfl) ?_
        obtain ⟨hc, hF⟩ := hF
        refine zc_getf X hH hc 1 201 ("ChurchyardBook$Book", "graves", "Ljava/util/ArrayList;", true) (by decide +kernel) (v := va_rf (zr h 201 o)) rfl q190 (Or.inl rfl) dX5_clear_118 ?_
        refine lv_iload hx hb dX5_clear_121 (lv_at hl 4 rfl) ?_
        refine zq_st (st2 := [.int v5, .ref b1, .int 40, .int v4]) (by rw [eb1]; first | done | rfl) ?_
        obtain ⟨hc, hF⟩ := hF
        refine zc_call (c1 := 0) (s1 := 0) (rest := [.int 40, .int v4]) hH hB (Nat.zero_le _) (Nat.zero_le _) (fun hf => zc_rV X hH hc (by decide) rfl (As := [.int v5]) (wc_J2_get X.2.2.2.2.2.2.2.1 hF) (lw_V q475 q476 q477 q94 q478) ⟨rfl, by decide, by decide, rfl⟩ ⟨Nat.le_of_ble_eq_true rfl, Nat.le_of_ble_eq_true rfl, Nat.le_of_ble_eq_true rfl⟩ rfl hl.1 (st0 := [.int v5, .ref b1, .int 40, .int v4]) rfl (Nat.le_of_ble_eq_true rfl) dX5_clear_123 hf) (fun E9 ce9 q9 h9 H locs hx9 => False.elim hx9) (fun v9 h9 H locs hv9 hH hB => ?_)
        obtain ⟨r9, rfl, hF, rfl⟩ := hv9
        obtain ⟨hR, hF⟩ := hF
        refine zc_castY X hH (r := r9) [8, 9, 10, 11, 12, 13] "ChurchyardBook$Grave" hR (by decide) (by decide +kernel) q531 dX5_clear_126 ?_
        obtain ⟨b10, eb10, hF⟩ := hF
        refine zq_st (st2 := [.ref b10, .int 40, .int v4]) (by rw [eb10]; first | done | rfl) ?_
        obtain ⟨hc, hF⟩ := hF
        refine zc_getf X hH hc 15 615 ("ChurchyardBook$Grave", "lying", "Ljava/util/ArrayList;", true) (by decide +kernel) (v := va_rf (zr h 615 b10)) rfl q701 (Or.inl rfl) dX5_clear_129 ?_
        obtain ⟨b11, eb11, hF⟩ := hF
        refine zq_st (st2 := [.ref b11, .int 40, .int v4]) (by rw [eb11]; first | done | rfl) ?_
        obtain ⟨hc, hF⟩ := hF
        refine zc_call (c1 := 0) (s1 := 0) (rest := [.int 40, .int v4]) hH hB (Nat.zero_le _) (Nat.zero_le _) (fun hf => zc_rV X hH hc (by decide) rfl (As := []) (wc_J2_size X.2.2.2.2.2.2.2.1 hF) (lw_V q349 q350 q351 q94 q352) ⟨rfl, by decide, by decide, rfl⟩ ⟨Nat.le_of_ble_eq_true rfl, Nat.le_of_ble_eq_true rfl, Nat.le_of_ble_eq_true rfl⟩ rfl hl.1 (st0 := [.ref b11, .int 40, .int v4]) rfl (Nat.le_of_ble_eq_true rfl) dX5_clear_132 hf) (fun E9 ce9 q9 h9 H locs hx9 => False.elim hx9) (fun v9 h9 H locs hv9 hH hB => ?_)
        obtain ⟨z12, rfl, hF, rfl⟩ := hv9
        refine lv_isub hx hb dX5_clear_135 ?_
        refine lv_goto (tgt := 140) hx hb dX5_clear_136 (by decide) ?_
        exact wc_X5_clear_140 X hN hT ih h bc bs q2 v3 v5 v4 (40 - z12) hF _ _ _ _ _ hB (lv_sub hl [0, 1, 2, 4] rfl) hH
set_option maxHeartbeats 4000000 in
set_option maxRecDepth 100000 in
theorem wc_X5_clear_71 {p : Program} {l : Launch} {e : Env} {s : State} {m : MethodId} {args : Array Value} {below : List Frame} {meth : Method} {c : Code} {D : va_G} {cA : Nat → ClassId} {P : Nat → Prop} {G : Nat × Nat × Nat} {C S : Nat} {o : Nat} {Q : Int32 → ZH → Prop} {XE : String → Nat → ZH → Prop} (X : zc_Cx p l s m args meth c cX5_clear 8 (some .int) "ChurchyardBook$Book" D cA P G) (hN : meth.name = "clear") (hT : c.exceptionTable.toList = tableOf []) :
    ∀ (h : ZH) (bc bs : Nat) (q2 : Option Nat) (t0 : Int32), fc_X5_clear_71 G o Q XE h bc bs q2 t0 → ∀ (H : Heap) (locs : List Loc) (ls : Array Slot) (cells slots : Nat), cells + bc ≤ C ∧ slots + bs ≤ S → lv_has ls 8 [(0, .ref o), (2, va_rf q2)] → zc_H D cA P h s H locs → W p l e (zc_Ro 11 C S) s m args below meth c H locs cells slots (vx_MQ below (zc_Q D cA P (fun v h' => ∃ z : Int32, v = some (.int z) ∧ Q z h')) (zc_X D cA P XE) args s C S P) (F0 m 71 ls [.int t0]) := by
  have hx := X.1
  have hb := X.2.1
  have hown := X.2.2.2.1
  have hts := X.2.2.2.2.1
  intro h bc bs q2 t0 hF
  intro H locs ls cells slots hB hl hH
  unfold fc_X5_clear_71 at hF
  refine lv_istore_n (lv' := [(3, .int t0), (0, .ref o), (2, va_rf q2)]) hx hb dX5_clear_71 rfl hl (by decide) (by cases q2 <;> rfl) (fun ls hl => ?_)
  refine lv_iconst (v := 0) hx hb dX5_clear_72 (by decide) ?_
  refine lv_istore (lv' := [(4, .int 0), (3, .int t0), (0, .ref o), (2, va_rf q2)]) hx hb dX5_clear_73 hl (by decide) rfl (fun ls hl => ?_)
  refine lv_iconst (v := 0) hx hb dX5_clear_75 (by decide) ?_
  refine lv_istore (lv' := [(5, .int 0), (4, .int 0), (3, .int t0), (0, .ref o), (2, va_rf q2)]) hx hb dX5_clear_76 hl (by decide) rfl (fun ls hl => ?_)
  obtain ⟨n9, hF⟩ := hF
  exact wc_X5_clear_78 X hN hT n9 h bc bs q2 t0 0 0 hF _ _ _ _ _ hB (lv_sub hl [3, 4, 2, 1, 0] rfl) hH
set_option maxHeartbeats 4000000 in
set_option maxRecDepth 100000 in
theorem wc_X5_clear_53 {p : Program} {l : Launch} {e : Env} {s : State} {m : MethodId} {args : Array Value} {below : List Frame} {meth : Method} {c : Code} {D : va_G} {cA : Nat → ClassId} {P : Nat → Prop} {G : Nat × Nat × Nat} {C S : Nat} {o : Nat} {Q : Int32 → ZH → Prop} {XE : String → Nat → ZH → Prop} (X : zc_Cx p l s m args meth c cX5_clear 8 (some .int) "ChurchyardBook$Book" D cA P G) (hN : meth.name = "clear") (hT : c.exceptionTable.toList = tableOf []) :
    ∀ (h : ZH) (bc bs : Nat) (q2 : Option Nat) (t0 : Int32), fc_X5_clear_53 G o Q XE h bc bs q2 t0 → ∀ (H : Heap) (locs : List Loc) (ls : Array Slot) (cells slots : Nat), cells + bc ≤ C ∧ slots + bs ≤ S → lv_has ls 8 [(0, .ref o), (2, va_rf q2)] → zc_H D cA P h s H locs → W p l e (zc_Ro 11 C S) s m args below meth c H locs cells slots (vx_MQ below (zc_Q D cA P (fun v h' => ∃ z : Int32, v = some (.int z) ∧ Q z h')) (zc_X D cA P XE) args s C S P) (F0 m 53 ls [.int t0]) := by
  have hx := X.1
  have hb := X.2.1
  have hown := X.2.2.2.1
  have hts := X.2.2.2.2.1
  intro h bc bs q2 t0 hF
  intro H locs ls cells slots hB hl hH
  unfold fc_X5_clear_53 at hF
  refine lv_bipush (v := (-3)) hx hb dX5_clear_53 (by decide) ?_
  obtain ⟨c1, s2, hc1, hs1, hF⟩ := hF
  refine zc_call (c1 := c1) (s1 := s2) (rest := []) hH hB hc1 hs1 (fun hf => zc_rSN X hH (As := [.int t0, .int (-3)]) (host := "ChurchyardBook") (wc_X1_need X.2.2.2.2.2.2.2.1 hF) (lw_meth q265) (by decide +kernel) q87 q264 ⟨by decide, by decide, rfl⟩ ⟨Nat.le_of_ble_eq_true rfl, Nat.le_of_ble_eq_true rfl, Nat.le_of_ble_eq_true rfl⟩ rfl hl.1 (st0 := [.int (-3), .int t0]) rfl (Nat.le_of_ble_eq_true rfl) dX5_clear_55 hf) (fun E9 ce9 q3 h4 H locs hx9 hH hB hce hcv hcl => ?_) (fun v9 h9 H locs hv9 hH hB => ?_)
  · exact zc_out X hH hB (by rw [hT]; intro x hx9; cases hx9) hce hcv hcl hx9
  obtain ⟨rfl, hF, rfl⟩ := hv9
  refine zq_aload_n hx hb dX5_clear_58 rfl (lv_at hl 1 rfl) ?_
  obtain ⟨b5, eb5, hF⟩ := hF
  refine zq_st (st2 := [.ref b5]) (by rw [eb5]; first | done | rfl) ?_
  refine zc_call (c1 := 0) (s1 := 0) (rest := []) hH hB (Nat.zero_le _) (Nat.zero_le _) (fun hf => rv_kind_21 X hH q1371 hF ⟨Nat.le_of_ble_eq_true rfl, Nat.le_of_ble_eq_true rfl, Nat.le_of_ble_eq_true rfl⟩ hl.1 (st0 := [.ref b5]) rfl (Nat.le_of_ble_eq_true rfl) dX5_clear_59 hf) (fun E9 ce9 q9 h9 H locs hx9 => False.elim hx9) (fun v9 h9 H locs hv9 hH hB => ?_)
  obtain ⟨z6, rfl, hF, rfl⟩ := hv9
  refine lv_iconst (v := 4) hx hb dX5_clear_62 (by decide) ?_
  refine lv_icmp_ne (tgt := 70) hx hb dX5_clear_63 (by decide) (fun cd => ?_) (fun cd => ?_)
  · have hF := hF.1 cd
    refine lv_iconst (v := 0) hx hb dX5_clear_70 (by decide) ?_
    exact wc_X5_clear_71 X hN hT h (bc - c1) (bs - s2) q2 0 hF _ _ _ _ _ hB (lv_sub hl [0, 1] rfl) hH
  · have hF := hF.2 cd
    refine lv_iconst (v := 1) hx hb dX5_clear_66 (by decide) ?_
    refine lv_goto (tgt := 71) hx hb dX5_clear_67 (by decide) ?_
    exact wc_X5_clear_71 X hN hT h (bc - c1) (bs - s2) q2 1 hF _ _ _ _ _ hB (lv_sub hl [0, 1] rfl) hH
set_option maxHeartbeats 4000000 in
set_option maxRecDepth 100000 in
theorem wc_X5_clear_32 {p : Program} {l : Launch} {e : Env} {s : State} {m : MethodId} {args : Array Value} {below : List Frame} {meth : Method} {c : Code} {D : va_G} {cA : Nat → ClassId} {P : Nat → Prop} {G : Nat × Nat × Nat} {C S : Nat} {o : Nat} {Q : Int32 → ZH → Prop} {XE : String → Nat → ZH → Prop} (X : zc_Cx p l s m args meth c cX5_clear 8 (some .int) "ChurchyardBook$Book" D cA P G) (hN : meth.name = "clear") (hT : c.exceptionTable.toList = tableOf []) :
    ∀ (h : ZH) (bc bs : Nat) (q2 : Option Nat) (t0 : Int32), fc_X5_clear_32 G o Q XE h bc bs q2 t0 → ∀ (H : Heap) (locs : List Loc) (ls : Array Slot) (cells slots : Nat), cells + bc ≤ C ∧ slots + bs ≤ S → lv_has ls 8 [(0, .ref o), (2, va_rf q2)] → zc_H D cA P h s H locs → W p l e (zc_Ro 11 C S) s m args below meth c H locs cells slots (vx_MQ below (zc_Q D cA P (fun v h' => ∃ z : Int32, v = some (.int z) ∧ Q z h')) (zc_X D cA P XE) args s C S P) (F0 m 32 ls [.int t0]) := by
  have hx := X.1
  have hb := X.2.1
  have hown := X.2.2.2.1
  have hts := X.2.2.2.2.1
  intro h bc bs q2 t0 hF
  intro H locs ls cells slots hB hl hH
  unfold fc_X5_clear_32 at hF
  refine lv_bipush (v := (-2)) hx hb dX5_clear_32 (by decide) ?_
  obtain ⟨c1, s2, hc1, hs1, hF⟩ := hF
  refine zc_call (c1 := c1) (s1 := s2) (rest := []) hH hB hc1 hs1 (fun hf => zc_rSN X hH (As := [.int t0, .int (-2)]) (host := "ChurchyardBook") (wc_X1_need X.2.2.2.2.2.2.2.1 hF) (lw_meth q265) (by decide +kernel) q87 q264 ⟨by decide, by decide, rfl⟩ ⟨Nat.le_of_ble_eq_true rfl, Nat.le_of_ble_eq_true rfl, Nat.le_of_ble_eq_true rfl⟩ rfl hl.1 (st0 := [.int (-2), .int t0]) rfl (Nat.le_of_ble_eq_true rfl) dX5_clear_34 hf) (fun E9 ce9 q3 h4 H locs hx9 hH hB hce hcv hcl => ?_) (fun v9 h9 H locs hv9 hH hB => ?_)
  · exact zc_out X hH hB (by rw [hT]; intro x hx9; cases hx9) hce hcv hcl hx9
  obtain ⟨rfl, hF, rfl⟩ := hv9
  refine zq_aload_n hx hb dX5_clear_37 rfl (lv_at hl 1 rfl) ?_
  refine lv_aload_n hx hb dX5_clear_38 rfl (lv_at hl 0 rfl) ?_
  obtain ⟨hc, hF⟩ := hF
  refine zc_getf X hH hc 3 203 ("ChurchyardBook$Book", "today", "I", false) (by decide +kernel) (v := .int (zi h 203 o)) rfl q194 (Or.inl rfl) dX5_clear_39 ?_
  obtain ⟨b5, eb5, hF⟩ := hF
  refine zq_st (st2 := [.int (zi h 203 o), .ref b5]) (by rw [eb5]; first | done | rfl) ?_
  refine zc_call (c1 := 0) (s1 := 0) (rest := []) hH hB (Nat.zero_le _) (Nat.zero_le _) (fun hf => rv_hasRest_22 X hH q1361 hF ⟨Nat.le_of_ble_eq_true rfl, Nat.le_of_ble_eq_true rfl, Nat.le_of_ble_eq_true rfl⟩ hl.1 (st0 := [.int (zi h 203 o), .ref b5]) rfl (Nat.le_of_ble_eq_true rfl) dX5_clear_42 hf) (fun E9 ce9 q9 h9 H locs hx9 => False.elim hx9) (fun v9 h9 H locs hv9 hH hB => ?_)
  obtain ⟨z6, rfl, hF, rfl⟩ := hv9
  refine lv_if_ne (tgt := 52) hx hb dX5_clear_45 (by decide) (fun cd => ?_) (fun cd => ?_)
  · have hF := hF.1 cd
    refine lv_iconst (v := 0) hx hb dX5_clear_52 (by decide) ?_
    exact wc_X5_clear_53 X hN hT h (bc - c1) (bs - s2) q2 0 hF _ _ _ _ _ hB (lv_sub hl [0, 1] rfl) hH
  · have hF := hF.2 cd
    refine lv_iconst (v := 1) hx hb dX5_clear_48 (by decide) ?_
    refine lv_goto (tgt := 53) hx hb dX5_clear_49 (by decide) ?_
    exact wc_X5_clear_53 X hN hT h (bc - c1) (bs - s2) q2 1 hF _ _ _ _ _ hB (lv_sub hl [0, 1] rfl) hH
set_option maxHeartbeats 4000000 in
set_option maxRecDepth 100000 in
theorem wc_X5_clear_15 {p : Program} {l : Launch} {e : Env} {s : State} {m : MethodId} {args : Array Value} {below : List Frame} {meth : Method} {c : Code} {D : va_G} {cA : Nat → ClassId} {P : Nat → Prop} {G : Nat × Nat × Nat} {C S : Nat} {o : Nat} {Q : Int32 → ZH → Prop} {XE : String → Nat → ZH → Prop} (X : zc_Cx p l s m args meth c cX5_clear 8 (some .int) "ChurchyardBook$Book" D cA P G) (hN : meth.name = "clear") (hT : c.exceptionTable.toList = tableOf []) :
    ∀ (h : ZH) (bc bs : Nat) (q2 : Option Nat) (t0 : Int32), fc_X5_clear_15 G o Q XE h bc bs q2 t0 → ∀ (H : Heap) (locs : List Loc) (ls : Array Slot) (cells slots : Nat), cells + bc ≤ C ∧ slots + bs ≤ S → lv_has ls 8 [(0, .ref o), (2, va_rf q2)] → zc_H D cA P h s H locs → W p l e (zc_Ro 11 C S) s m args below meth c H locs cells slots (vx_MQ below (zc_Q D cA P (fun v h' => ∃ z : Int32, v = some (.int z) ∧ Q z h')) (zc_X D cA P XE) args s C S P) (F0 m 15 ls [.int t0]) := by
  have hx := X.1
  have hb := X.2.1
  have hown := X.2.2.2.1
  have hts := X.2.2.2.2.1
  intro h bc bs q2 t0 hF
  intro H locs ls cells slots hB hl hH
  unfold fc_X5_clear_15 at hF
  refine lv_iconst (v := (-1)) hx hb dX5_clear_15 (by decide) ?_
  obtain ⟨c1, s2, hc1, hs1, hF⟩ := hF
  refine zc_call (c1 := c1) (s1 := s2) (rest := []) hH hB hc1 hs1 (fun hf => zc_rSN X hH (As := [.int t0, .int (-1)]) (host := "ChurchyardBook") (wc_X1_need X.2.2.2.2.2.2.2.1 hF) (lw_meth q265) (by decide +kernel) q87 q264 ⟨by decide, by decide, rfl⟩ ⟨Nat.le_of_ble_eq_true rfl, Nat.le_of_ble_eq_true rfl, Nat.le_of_ble_eq_true rfl⟩ rfl hl.1 (st0 := [.int (-1), .int t0]) rfl (Nat.le_of_ble_eq_true rfl) dX5_clear_16 hf) (fun E9 ce9 q3 h4 H locs hx9 hH hB hce hcv hcl => ?_) (fun v9 h9 H locs hv9 hH hB => ?_)
  · exact zc_out X hH hB (by rw [hT]; intro x hx9; cases hx9) hce hcv hcl hx9
  obtain ⟨rfl, hF, rfl⟩ := hv9
  refine zq_aload_n hx hb dX5_clear_19 rfl (lv_at hl 1 rfl) ?_
  obtain ⟨b5, eb5, hF⟩ := hF
  refine zq_st (st2 := [.ref b5]) (by rw [eb5]; first | done | rfl) ?_
  obtain ⟨hc, hF⟩ := hF
  refine zc_getf X hH hc 6 606 ("ChurchyardBook$Grave", "state", "I", false) (by decide +kernel) (v := .int (zi h 606 b5)) rfl q672 (Or.inl rfl) dX5_clear_20 ?_
  refine lv_iconst (v := 3) hx hb dX5_clear_23 (by decide) ?_
  refine lv_icmp_ne (tgt := 31) hx hb dX5_clear_24 (by decide) (fun cd => ?_) (fun cd => ?_)
  · have hF := hF.1 cd
    refine lv_iconst (v := 0) hx hb dX5_clear_31 (by decide) ?_
    exact wc_X5_clear_32 X hN hT h (bc - c1) (bs - s2) q2 0 hF _ _ _ _ _ hB (lv_sub hl [0, 1] rfl) hH
  · have hF := hF.2 cd
    refine lv_iconst (v := 1) hx hb dX5_clear_27 (by decide) ?_
    refine lv_goto (tgt := 32) hx hb dX5_clear_28 (by decide) ?_
    exact wc_X5_clear_32 X hN hT h (bc - c1) (bs - s2) q2 1 hF _ _ _ _ _ hB (lv_sub hl [0, 1] rfl) hH
set_option maxHeartbeats 4000000 in
set_option maxRecDepth 100000 in
theorem wc_X5_clear {l : Launch} {D : va_G} {cA : Nat → ClassId} {P : Nat → Prop} {G : Nat × Nat × Nat} {o : Nat} {Q : Int32 → ZH → Prop} {XE : String → Nat → ZH → Prop} {h : ZH} {C S : Nat} {v1 : Int32} (hl9 : l.stackTraces = false) (hF : fc_X5_clear G o Q XE h C S v1) :
    zc_M l yX5_clear (ws_ yX5_clear cX5_clear 8 (some .int)) 11 D cA P G [.ref o, .int v1] h C S (fun v h' => ∃ z : Int32, v = some (.int z) ∧ Q z h') XE := by
  refine zc_ofF hl9 rfl (by decide +kernel) (Nat.le_of_ble_eq_true rfl) ?_
  intro p e s m args below meth c H locs ls X hN hT hH hl
  have hx := X.1
  have hb := X.2.1
  have hown := X.2.2.2.1
  have hts := X.2.2.2.2.1
  have hl : lv_has ls 8 [(0, .ref o), (1, .int v1)] := hl
  have hB : 0 + C ≤ C ∧ 0 + S ≤ S := ⟨by omega, by omega⟩
  unfold fc_X5_clear at hF
  refine lv_aload_n hx hb dX5_clear_0 rfl (lv_at hl 0 rfl) ?_
  refine lv_iload_n hx hb dX5_clear_1 rfl (lv_at hl 1 rfl) ?_
  obtain ⟨hc, hF⟩ := hF
  refine zc_call (c1 := 0) (s1 := 0) (rest := []) hH hB (Nat.zero_le _) (Nat.zero_le _) (fun hf => zc_rV X hH hc (by decide) rfl (As := [.int v1]) (wc_X5_grave X.2.2.2.2.2.2.2.1 hF) (lw_V q953 q954 q955 q91 q956) ⟨rfl, by decide, by decide, rfl⟩ ⟨Nat.le_of_ble_eq_true rfl, Nat.le_of_ble_eq_true rfl, Nat.le_of_ble_eq_true rfl⟩ rfl hl.1 (st0 := [.int v1, .ref o]) rfl (Nat.le_of_ble_eq_true rfl) dX5_clear_2 hf) (fun E9 ce9 q9 h9 H locs hx9 => False.elim hx9) (fun v9 h9 H locs hv9 hH hB => ?_)
  obtain ⟨r1, rfl, hF, rfl⟩ := hv9
  refine zq_astore_n (r := r1) (lv' := [(2, va_rf r1), (0, .ref o), (1, .int v1)]) hx hb rfl dX5_clear_5 rfl hl (by decide) rfl (fun ls hl => ?_)
  refine zq_aload_n hx hb dX5_clear_6 rfl (lv_at hl 0 rfl) ?_
  refine zq_ifnull (tgt := 14) hx hb dX5_clear_7 (by decide) (fun cd => ?_) (fun b2 eb2 => ?_)
  · have hF := hF.1 cd
    refine lv_iconst (v := 0) hx hb dX5_clear_14 (by decide) ?_
    exact wc_X5_clear_15 X hN hT h C S r1 0 hF _ _ _ _ _ hB (lv_sub hl [1, 0] rfl) hH
  · have hF := hF.2 b2 eb2
    refine lv_iconst (v := 1) hx hb dX5_clear_10 (by decide) ?_
    refine lv_goto (tgt := 15) hx hb dX5_clear_11 (by decide) ?_
    exact wc_X5_clear_15 X hN hT h C S r1 1 hF _ _ _ _ _ hB (lv_sub hl [1, 0] rfl) hH
set_option maxHeartbeats 4000000 in
set_option maxRecDepth 100000 in
theorem wc_X9_falls {l : Launch} {D : va_G} {cA : Nat → ClassId} {P : Nat → Prop} {G : Nat × Nat × Nat} {o : Nat} {Q : ZH → Prop} {h : ZH} {C S : Nat} (hl9 : l.stackTraces = false) (hF : fc_X9_falls G o Q h) :
    zc_M l yX9_falls (ws_ yX9_falls cX9_falls 1 none) 2 D cA P G [.ref o] h C S (fun v h' => v = none ∧ Q h') zc_no := by
  refine zc_ofF hl9 rfl (by decide +kernel) (Nat.le_of_ble_eq_true rfl) ?_
  intro p e s m args below meth c H locs ls X hN hT hH hl
  have hx := X.1
  have hb := X.2.1
  have hown := X.2.2.2.1
  have hts := X.2.2.2.2.1
  have hl : lv_has ls 1 [(0, .ref o)] := hl
  have hB : 0 + 0 ≤ C ∧ 0 + 0 ≤ S := ⟨by omega, by omega⟩
  unfold fc_X9_falls at hF
  refine lv_aload_n hx hb dX9_falls_0 rfl (lv_at hl 0 rfl) ?_
  refine lv_iconst (v := 3) hx hb dX9_falls_1 (by decide) ?_
  obtain ⟨hc, hF⟩ := hF
  refine zc_puti X hH hc 6 606 ("ChurchyardBook$Grave", "state", "I", false) (by decide +kernel) rfl q671 (Or.inl rfl) (ty := .int) (by decide +kernel) rfl rfl (Or.inl rfl) dX9_falls_2 (fun h1 H locs eh1 hH => ?_)
  have hF := hF h1 eh1
  refine lv_aload_n hx hb dX9_falls_5 rfl (lv_at hl 0 rfl) ?_
  refine lv_null hx hb dX9_falls_6 ?_
  obtain ⟨hc, hF⟩ := hF
  refine zc_putr X hH hc 7 607 ("ChurchyardBook$Grave", "holder", "LChurchyardBook$Person;", false) (by decide +kernel) rfl q674 (Or.inl rfl) (x := none) rfl (ty := (.object "ChurchyardBook$Person")) (by decide +kernel) rfl (Or.inl rfl) dX9_falls_7 (fun h2 H locs eh2 hH => ?_)
  have hF := hF h2 eh2
  refine lv_aload_n hx hb dX9_falls_10 rfl (lv_at hl 0 rfl) ?_
  refine lv_null hx hb dX9_falls_11 ?_
  obtain ⟨hc, hF⟩ := hF
  refine zc_putr X hH hc 9 609 ("ChurchyardBook$Grave", "offered", "LChurchyardBook$Person;", false) (by decide +kernel) rfl q680 (Or.inl rfl) (x := none) rfl (ty := (.object "ChurchyardBook$Person")) (by decide +kernel) rfl (Or.inl rfl) dX9_falls_12 (fun h3 H locs eh3 hH => ?_)
  have hF := hF h3 eh3
  refine lv_aload_n hx hb dX9_falls_15 rfl (lv_at hl 0 rfl) ?_
  obtain ⟨hc, hF⟩ := hF
  refine zc_getf X hH hc 11 611 ("ChurchyardBook$Grave", "order", "Ljava/util/ArrayList;", true) (by decide +kernel) (v := va_rf (zr h3 611 o)) rfl q685 (Or.inl rfl) dX9_falls_16 ?_
  obtain ⟨b4, eb4, hF⟩ := hF
  refine zq_st (st2 := [.ref b4]) (by rw [eb4]; first | done | rfl) ?_
  obtain ⟨hc, hF⟩ := hF
  refine zc_call (c1 := 0) (s1 := 0) (rest := []) hH hB (Nat.zero_le _) (Nat.zero_le _) (fun hf => zc_rV X hH hc (by decide) rfl (As := []) (wc_J2_clear X.2.2.2.2.2.2.2.1 hF) (lw_V q979 q980 q981 q94 q982) ⟨rfl, by decide, by decide, rfl⟩ ⟨Nat.le_of_ble_eq_true rfl, Nat.le_of_ble_eq_true rfl, Nat.le_of_ble_eq_true rfl⟩ rfl hl.1 (st0 := [.ref b4]) rfl (Nat.le_of_ble_eq_true rfl) dX9_falls_19 hf) (fun E9 ce9 q9 h9 H locs hx9 => False.elim hx9) (fun v9 h5 H locs hv9 hH hB => ?_)
  obtain ⟨rfl, hF⟩ := hv9
  refine lv_aload_n hx hb dX9_falls_22 rfl (lv_at hl 0 rfl) ?_
  refine lv_null hx hb dX9_falls_23 ?_
  obtain ⟨hc, hF⟩ := hF
  refine zc_putr X hH hc 13 613 ("ChurchyardBook$Grave", "told", "[Z", false) (by decide +kernel) rfl q691 (Or.inl rfl) (x := none) rfl (ty := (.array .boolean)) (by decide +kernel) rfl (Or.inl rfl) dX9_falls_24 (fun h6 H locs eh6 hH => ?_)
  have hF := hF h6 eh6
  refine lv_aload_n hx hb dX9_falls_27 rfl (lv_at hl 0 rfl) ?_
  refine lv_null hx hb dX9_falls_28 ?_
  obtain ⟨hc, hF⟩ := hF
  refine zc_putr X hH hc 14 614 ("ChurchyardBook$Grave", "from", "LChurchyardBook$Person;", false) (by decide +kernel) rfl q693 (Or.inl rfl) (x := none) rfl (ty := (.object "ChurchyardBook$Person")) (by decide +kernel) rfl (Or.inl rfl) dX9_falls_29 (fun h7 H locs eh7 hH => ?_)
  have hF := hF h7 eh7
  exact zc_vret X hH hB rfl ⟨rfl, hF⟩ dX9_falls_32
set_option maxHeartbeats 1000000 in
theorem rv_falls_23 {p : Program} {l : Launch} {e : Env} {R : Room} {s : State} {m : MethodId} {args : Array Value} {below : List Frame} {meth : Method} {c : Code} {H : Heap} {locs : List Loc} {cells slots : Nat} {cc : ByteArray} {nL pc : Nat} {ret : Option FieldType} {own : String} {ls : Array Slot} {rest : List Value} {D : va_G} {cA : Nat → ClassId} {P : Nat → Prop} {G : Nat × Nat × Nat} {h : ZH} {C S a idx : Nat} {Q : ZH → Prop} (X : zc_Cx p l s m args meth c cc nL ret own D cA P G) (hH : zc_H D cA P h s H locs) (hlk : Cond.methodLink own idx ⟨"ChurchyardBook$Grave", "falls", "()V"⟩ ∈ lw_all) (hF : fv_falls_23 G a Q h) (hR : zc_rm R 2 11) (hsize : ls.size = nL) {st0 : List Value} (hst : st0 = ([] : List Value).reverse ++ .ref a :: rest) (hcat : (rest.map fun v => v.category).sum ≤ 8) (hdg : decode cc pc = .ok (.invokevirtual idx, 3)) (hf : cells + C ≤ R.cells ∧ slots + S ≤ R.slots) :
    vx_Run p l e R s m args below meth c H locs cells slots C S (F0 m pc ls st0) rest (zc_Q D cA P (fun v h' => v = none ∧ Q h') (Value.ref a :: []).toArray) (zc_X D cA P zc_no) P := by
  unfold fv_falls_23 at hF
  have hR9 := hR
  obtain ⟨hc, hF⟩ := hF
  simp only [List.mem_cons, List.not_mem_nil, or_false] at hc
  rcases hc with hc | hc | hc | hc | hc | hc
  · have hF := hF (by rw [hc]; decide)
    exact zc_rU X hH hc (by decide) rfl (owner := "ChurchyardBook$Grave") (x := ⟨"ChurchyardBook$Grave", "falls", "()V"⟩) (As := []) (wc_X9_falls X.2.2.2.2.2.2.2.1 hF) (lw_meth q1431) (X.2.2.2.2.1 _ hlk) (X.2.2.2.2.1 _ q1424) (zc_declC X q1423 q1431) (X.2.2.2.2.1 _ q1429) q1423 q114 ⟨by decide, by decide, rfl⟩ (zc_rm_le hR9 (by decide) (by decide)) rfl hsize hst hcat hdg hf
  · have hF := hF (by rw [hc]; decide)
    exact zc_rU X hH hc (by decide) rfl (owner := "ChurchyardBook$Grave") (x := ⟨"ChurchyardBook$Grave", "falls", "()V"⟩) (As := []) (wc_X9_falls X.2.2.2.2.2.2.2.1 hF) (lw_meth q1431) (X.2.2.2.2.1 _ hlk) (X.2.2.2.2.1 _ q1424) (zc_declC X q1423 q1431) (X.2.2.2.2.1 _ q1426) q1423 q114 ⟨by decide, by decide, rfl⟩ (zc_rm_le hR9 (by decide) (by decide)) rfl hsize hst hcat hdg hf
  · have hF := hF (by rw [hc]; decide)
    exact zc_rU X hH hc (by decide) rfl (owner := "ChurchyardBook$Grave") (x := ⟨"ChurchyardBook$Grave", "falls", "()V"⟩) (As := []) (wc_X9_falls X.2.2.2.2.2.2.2.1 hF) (lw_meth q1431) (X.2.2.2.2.1 _ hlk) (X.2.2.2.2.1 _ q1424) (zc_declC X q1423 q1431) (X.2.2.2.2.1 _ q1427) q1423 q114 ⟨by decide, by decide, rfl⟩ (zc_rm_le hR9 (by decide) (by decide)) rfl hsize hst hcat hdg hf
  · have hF := hF (by rw [hc]; decide)
    exact zc_rU X hH hc (by decide) rfl (owner := "ChurchyardBook$Grave") (x := ⟨"ChurchyardBook$Grave", "falls", "()V"⟩) (As := []) (wc_X9_falls X.2.2.2.2.2.2.2.1 hF) (lw_meth q1431) (X.2.2.2.2.1 _ hlk) (X.2.2.2.2.1 _ q1424) (zc_declC X q1423 q1431) (X.2.2.2.2.1 _ q1430) q1423 q114 ⟨by decide, by decide, rfl⟩ (zc_rm_le hR9 (by decide) (by decide)) rfl hsize hst hcat hdg hf
  · have hF := hF (by rw [hc]; decide)
    exact zc_rU X hH hc (by decide) rfl (owner := "ChurchyardBook$Grave") (x := ⟨"ChurchyardBook$Grave", "falls", "()V"⟩) (As := []) (wc_X9_falls X.2.2.2.2.2.2.2.1 hF) (lw_meth q1431) (X.2.2.2.2.1 _ hlk) (X.2.2.2.2.1 _ q1424) (zc_declC X q1423 q1431) (X.2.2.2.2.1 _ q1428) q1423 q114 ⟨by decide, by decide, rfl⟩ (zc_rm_le hR9 (by decide) (by decide)) rfl hsize hst hcat hdg hf
  · have hF := hF (by rw [hc]; decide)
    exact zc_rU X hH hc (by decide) rfl (owner := "ChurchyardBook$Grave") (x := ⟨"ChurchyardBook$Grave", "falls", "()V"⟩) (As := []) (wc_X9_falls X.2.2.2.2.2.2.2.1 hF) (lw_meth q1431) (X.2.2.2.2.1 _ hlk) (X.2.2.2.2.1 _ q1424) (zc_declC X q1423 q1431) (X.2.2.2.2.1 _ q1425) q1423 q114 ⟨by decide, by decide, rfl⟩ (zc_rm_le hR9 (by decide) (by decide)) rfl hsize hst hcat hdg hf
set_option maxHeartbeats 4000000 in
set_option maxRecDepth 100000 in
theorem wc_X9_turn_102 {p : Program} {l : Launch} {e : Env} {s : State} {m : MethodId} {args : Array Value} {below : List Frame} {meth : Method} {c : Code} {D : va_G} {cA : Nat → ClassId} {P : Nat → Prop} {G : Nat × Nat × Nat} {C S : Nat} {o : Nat} {Q : ZH → Prop} {K2 : ZH → Int32 → Int32 → Prop} (X : zc_Cx p l s m args meth c cX9_turn 4 none "ChurchyardBook$Grave" D cA P G) (hN : meth.name = "turn") (hT : c.exceptionTable.toList = tableOf []) (hK2 : ∀ (h : ZH) (v1 : Int32) (v2 : Int32), K2 h v1 v2 → ∀ (H : Heap) (locs : List Loc) (ls : Array Slot) (cells slots : Nat), cells + 0 ≤ C ∧ slots + 0 ≤ S → lv_has ls 4 [(0, .ref o), (1, .int v1), (2, .int v2)] → zc_H D cA P h s H locs → W p l e (zc_Ro 5 C S) s m args below meth c H locs cells slots (vx_MQ below (zc_Q D cA P (fun v h' => v = none ∧ Q h')) (zc_X D cA P zc_no) args s C S P) (F0 m 2 ls [])) :
    ∀ (h : ZH) (v1 : Int32) (v2 : Int32), fc_X9_turn_102 G o Q K2 h v1 v2 → ∀ (H : Heap) (locs : List Loc) (ls : Array Slot) (cells slots : Nat), cells + 0 ≤ C ∧ slots + 0 ≤ S → lv_has ls 4 [(0, .ref o), (1, .int v1), (2, .int v2)] → zc_H D cA P h s H locs → W p l e (zc_Ro 5 C S) s m args below meth c H locs cells slots (vx_MQ below (zc_Q D cA P (fun v h' => v = none ∧ Q h')) (zc_X D cA P zc_no) args s C S P) (F0 m 102 ls []) := by
  have hx := X.1
  have hb := X.2.1
  have hown := X.2.2.2.1
  have hts := X.2.2.2.2.1
  intro h v1 v2 hF
  intro H locs ls cells slots hB hl hH
  unfold fc_X9_turn_102 at hF
  refine lv_goto (tgt := 2) hx hb dX9_turn_102 (by decide) ?_
  exact hK2 h v1 v2 hF _ _ _ _ _ hB (lv_sub hl [0, 1, 2] rfl) hH
set_option maxHeartbeats 4000000 in
set_option maxRecDepth 100000 in
theorem wc_X9_turn_90 {p : Program} {l : Launch} {e : Env} {s : State} {m : MethodId} {args : Array Value} {below : List Frame} {meth : Method} {c : Code} {D : va_G} {cA : Nat → ClassId} {P : Nat → Prop} {G : Nat × Nat × Nat} {C S : Nat} {o : Nat} {Q : ZH → Prop} {K2 : ZH → Int32 → Int32 → Prop} (X : zc_Cx p l s m args meth c cX9_turn 4 none "ChurchyardBook$Grave" D cA P G) (hN : meth.name = "turn") (hT : c.exceptionTable.toList = tableOf []) (hK2 : ∀ (h : ZH) (v1 : Int32) (v2 : Int32), K2 h v1 v2 → ∀ (H : Heap) (locs : List Loc) (ls : Array Slot) (cells slots : Nat), cells + 0 ≤ C ∧ slots + 0 ≤ S → lv_has ls 4 [(0, .ref o), (1, .int v1), (2, .int v2)] → zc_H D cA P h s H locs → W p l e (zc_Ro 5 C S) s m args below meth c H locs cells slots (vx_MQ below (zc_Q D cA P (fun v h' => v = none ∧ Q h')) (zc_X D cA P zc_no) args s C S P) (F0 m 2 ls [])) :
    ∀ (h : ZH) (v1 : Int32) (v2 : Int32), fc_X9_turn_90 G o Q K2 h v1 v2 → ∀ (H : Heap) (locs : List Loc) (ls : Array Slot) (cells slots : Nat), cells + 0 ≤ C ∧ slots + 0 ≤ S → lv_has ls 4 [(0, .ref o), (1, .int v1), (2, .int v2)] → zc_H D cA P h s H locs → W p l e (zc_Ro 5 C S) s m args below meth c H locs cells slots (vx_MQ below (zc_Q D cA P (fun v h' => v = none ∧ Q h')) (zc_X D cA P zc_no) args s C S P) (F0 m 90 ls []) := by
  have hx := X.1
  have hb := X.2.1
  have hown := X.2.2.2.1
  have hts := X.2.2.2.2.1
  intro h v1 v2 hF
  intro H locs ls cells slots hB hl hH
  unfold fc_X9_turn_90 at hF
  refine lv_aload_n hx hb dX9_turn_90 rfl (lv_at hl 0 rfl) ?_
  refine zc_call (c1 := 0) (s1 := 0) (rest := []) hH hB (Nat.zero_le _) (Nat.zero_le _) (fun hf => rv_falls_23 X hH q1422 hF ⟨Nat.le_of_ble_eq_true rfl, Nat.le_of_ble_eq_true rfl, Nat.le_of_ble_eq_true rfl⟩ hl.1 (st0 := [.ref o]) rfl (Nat.le_of_ble_eq_true rfl) dX9_turn_91 hf) (fun E9 ce9 q9 h9 H locs hx9 => False.elim hx9) (fun v9 h1 H locs hv9 hH hB => ?_)
  obtain ⟨rfl, hF⟩ := hv9
  refine lv_goto (tgt := 102) hx hb dX9_turn_94 (by decide) ?_
  exact wc_X9_turn_102 X hN hT hK2 h1 v1 v2 hF _ _ _ _ _ hB (lv_sub hl [0, 1, 2] rfl) hH
set_option maxHeartbeats 4000000 in
set_option maxRecDepth 100000 in
theorem wc_X9_turn_67 {p : Program} {l : Launch} {e : Env} {s : State} {m : MethodId} {args : Array Value} {below : List Frame} {meth : Method} {c : Code} {D : va_G} {cA : Nat → ClassId} {P : Nat → Prop} {G : Nat × Nat × Nat} {C S : Nat} {o : Nat} {Q : ZH → Prop} {K2 : ZH → Int32 → Int32 → Prop} (X : zc_Cx p l s m args meth c cX9_turn 4 none "ChurchyardBook$Grave" D cA P G) (hN : meth.name = "turn") (hT : c.exceptionTable.toList = tableOf []) (hK2 : ∀ (h : ZH) (v1 : Int32) (v2 : Int32), K2 h v1 v2 → ∀ (H : Heap) (locs : List Loc) (ls : Array Slot) (cells slots : Nat), cells + 0 ≤ C ∧ slots + 0 ≤ S → lv_has ls 4 [(0, .ref o), (1, .int v1), (2, .int v2)] → zc_H D cA P h s H locs → W p l e (zc_Ro 5 C S) s m args below meth c H locs cells slots (vx_MQ below (zc_Q D cA P (fun v h' => v = none ∧ Q h')) (zc_X D cA P zc_no) args s C S P) (F0 m 2 ls [])) :
    ∀ (h : ZH) (v1 : Int32) (v3 : Int32) (t0 : Int32), fc_X9_turn_67 G o Q K2 h v1 v3 t0 → ∀ (H : Heap) (locs : List Loc) (ls : Array Slot) (cells slots : Nat), cells + 0 ≤ C ∧ slots + 0 ≤ S → lv_has ls 4 [(0, .ref o), (1, .int v1), (3, .int v3)] → zc_H D cA P h s H locs → W p l e (zc_Ro 5 C S) s m args below meth c H locs cells slots (vx_MQ below (zc_Q D cA P (fun v h' => v = none ∧ Q h')) (zc_X D cA P zc_no) args s C S P) (F0 m 67 ls [.int t0]) := by
  have hx := X.1
  have hb := X.2.1
  have hown := X.2.2.2.1
  have hts := X.2.2.2.2.1
  intro h v1 v3 t0 hF
  intro H locs ls cells slots hB hl hH
  unfold fc_X9_turn_67 at hF
  refine lv_istore_n (lv' := [(2, .int t0), (0, .ref o), (1, .int v1), (3, .int v3)]) hx hb dX9_turn_67 rfl hl (by decide) rfl (fun ls hl => ?_)
  refine lv_iload_n hx hb dX9_turn_68 rfl (lv_at hl 0 rfl) ?_
  refine lv_if_ne (tgt := 75) hx hb dX9_turn_69 (by decide) (fun cd => ?_) (fun cd => ?_)
  · have hF := hF.1 cd
    refine lv_iload_n hx hb dX9_turn_75 rfl (lv_at hl 3 rfl) ?_
    refine lv_aload_n hx hb dX9_turn_76 rfl (lv_at hl 1 rfl) ?_
    obtain ⟨hc, hF⟩ := hF
    refine zc_getf X hH hc 8 608 ("ChurchyardBook$Grave", "to", "I", false) (by decide +kernel) (v := .int (zi h 608 o)) rfl q677 (Or.inl rfl) dX9_turn_77 ?_
    refine lv_icmp_gt (tgt := 90) hx hb dX9_turn_80 (by decide) (fun cd => ?_) (fun cd => ?_)
    · have hF := hF.1 cd
      exact wc_X9_turn_90 X hN hT hK2 h v1 t0 hF _ _ _ _ _ hB (lv_sub hl [1, 2, 0] rfl) hH
    · have hF := hF.2 cd
      refine lv_aload_n hx hb dX9_turn_83 rfl (lv_at hl 1 rfl) ?_
      obtain ⟨hc, hF⟩ := hF
      refine zc_getf X hH hc 9 609 ("ChurchyardBook$Grave", "offered", "LChurchyardBook$Person;", false) (by decide +kernel) (v := va_rf (zr h 609 o)) rfl q680 (Or.inl rfl) dX9_turn_84 ?_
      refine zq_ifnonnull (tgt := 97) hx hb dX9_turn_87 (by decide) (fun b1 eb1 => ?_) (fun cd => ?_)
      · have hF := hF.2 b1 eb1
        refine lv_aload_n hx hb dX9_turn_97 rfl (lv_at hl 1 rfl) ?_
        refine lv_iload_n hx hb dX9_turn_98 rfl (lv_at hl 3 rfl) ?_
        refine zc_call (c1 := 0) (s1 := 0) (rest := []) hH hB (Nat.zero_le _) (Nat.zero_le _) (fun hf => rv_passOn_5 X hH q1432 hF ⟨Nat.le_of_ble_eq_true rfl, Nat.le_of_ble_eq_true rfl, Nat.le_of_ble_eq_true rfl⟩ hl.1 (st0 := [.int v3, .ref o]) rfl (Nat.le_of_ble_eq_true rfl) dX9_turn_99 hf) (fun E9 ce9 q9 h9 H locs hx9 => False.elim hx9) (fun v9 h2 H locs hv9 hH hB => ?_)
        obtain ⟨rfl, hF⟩ := hv9
        exact wc_X9_turn_102 X hN hT hK2 h2 v1 t0 hF _ _ _ _ _ hB (lv_sub hl [1, 2, 0] rfl) hH
      · have hF := hF.1 cd
        exact wc_X9_turn_90 X hN hT hK2 h v1 t0 hF _ _ _ _ _ hB (lv_sub hl [1, 2, 0] rfl) hH
  · have hF := hF.2 cd
    refine lv_goto (tgt := 2) hx hb dX9_turn_72 (by decide) ?_
    exact hK2 h v1 t0 hF _ _ _ _ _ hB (lv_sub hl [1, 2, 0] rfl) hH
set_option maxHeartbeats 4000000 in
set_option maxRecDepth 100000 in
theorem wc_X9_turn_56 {p : Program} {l : Launch} {e : Env} {s : State} {m : MethodId} {args : Array Value} {below : List Frame} {meth : Method} {c : Code} {D : va_G} {cA : Nat → ClassId} {P : Nat → Prop} {G : Nat × Nat × Nat} {C S : Nat} {o : Nat} {Q : ZH → Prop} {K2 : ZH → Int32 → Int32 → Prop} (X : zc_Cx p l s m args meth c cX9_turn 4 none "ChurchyardBook$Grave" D cA P G) (hN : meth.name = "turn") (hT : c.exceptionTable.toList = tableOf []) (hK2 : ∀ (h : ZH) (v1 : Int32) (v2 : Int32), K2 h v1 v2 → ∀ (H : Heap) (locs : List Loc) (ls : Array Slot) (cells slots : Nat), cells + 0 ≤ C ∧ slots + 0 ≤ S → lv_has ls 4 [(0, .ref o), (1, .int v1), (2, .int v2)] → zc_H D cA P h s H locs → W p l e (zc_Ro 5 C S) s m args below meth c H locs cells slots (vx_MQ below (zc_Q D cA P (fun v h' => v = none ∧ Q h')) (zc_X D cA P zc_no) args s C S P) (F0 m 2 ls [])) :
    ∀ (h : ZH) (v1 : Int32) (t0 : Int32), fc_X9_turn_56 G o Q K2 h v1 t0 → ∀ (H : Heap) (locs : List Loc) (ls : Array Slot) (cells slots : Nat), cells + 0 ≤ C ∧ slots + 0 ≤ S → lv_has ls 4 [(0, .ref o), (1, .int v1)] → zc_H D cA P h s H locs → W p l e (zc_Ro 5 C S) s m args below meth c H locs cells slots (vx_MQ below (zc_Q D cA P (fun v h' => v = none ∧ Q h')) (zc_X D cA P zc_no) args s C S P) (F0 m 56 ls [.int t0]) := by
  have hx := X.1
  have hb := X.2.1
  have hown := X.2.2.2.1
  have hts := X.2.2.2.2.1
  intro h v1 t0 hF
  intro H locs ls cells slots hB hl hH
  unfold fc_X9_turn_56 at hF
  refine lv_istore_n (lv' := [(3, .int t0), (0, .ref o), (1, .int v1)]) hx hb dX9_turn_56 rfl hl (by decide) rfl (fun ls hl => ?_)
  refine lv_iload_n hx hb dX9_turn_57 rfl (lv_at hl 0 rfl) ?_
  refine lv_iload_n hx hb dX9_turn_58 rfl (lv_at hl 2 rfl) ?_
  refine lv_icmp_gt (tgt := 66) hx hb dX9_turn_59 (by decide) (fun cd => ?_) (fun cd => ?_)
  · have hF := hF.1 cd
    refine lv_iconst (v := 0) hx hb dX9_turn_66 (by decide) ?_
    exact wc_X9_turn_67 X hN hT hK2 h v1 t0 0 hF _ _ _ _ _ hB (lv_sub hl [1, 2, 0] rfl) hH
  · have hF := hF.2 cd
    refine lv_iconst (v := 1) hx hb dX9_turn_62 (by decide) ?_
    refine lv_goto (tgt := 67) hx hb dX9_turn_63 (by decide) ?_
    exact wc_X9_turn_67 X hN hT hK2 h v1 t0 1 hF _ _ _ _ _ hB (lv_sub hl [1, 2, 0] rfl) hH
set_option maxHeartbeats 4000000 in
set_option maxRecDepth 100000 in
theorem wc_X9_turn_50 {p : Program} {l : Launch} {e : Env} {s : State} {m : MethodId} {args : Array Value} {below : List Frame} {meth : Method} {c : Code} {D : va_G} {cA : Nat → ClassId} {P : Nat → Prop} {G : Nat × Nat × Nat} {C S : Nat} {o : Nat} {Q : ZH → Prop} {K2 : ZH → Int32 → Int32 → Prop} (X : zc_Cx p l s m args meth c cX9_turn 4 none "ChurchyardBook$Grave" D cA P G) (hN : meth.name = "turn") (hT : c.exceptionTable.toList = tableOf []) (hK2 : ∀ (h : ZH) (v1 : Int32) (v2 : Int32), K2 h v1 v2 → ∀ (H : Heap) (locs : List Loc) (ls : Array Slot) (cells slots : Nat), cells + 0 ≤ C ∧ slots + 0 ≤ S → lv_has ls 4 [(0, .ref o), (1, .int v1), (2, .int v2)] → zc_H D cA P h s H locs → W p l e (zc_Ro 5 C S) s m args below meth c H locs cells slots (vx_MQ below (zc_Q D cA P (fun v h' => v = none ∧ Q h')) (zc_X D cA P zc_no) args s C S P) (F0 m 2 ls [])) :
    ∀ (h : ZH) (v1 : Int32), fc_X9_turn_50 G o Q K2 h v1 → ∀ (H : Heap) (locs : List Loc) (ls : Array Slot) (cells slots : Nat), cells + 0 ≤ C ∧ slots + 0 ≤ S → lv_has ls 4 [(0, .ref o), (1, .int v1)] → zc_H D cA P h s H locs → W p l e (zc_Ro 5 C S) s m args below meth c H locs cells slots (vx_MQ below (zc_Q D cA P (fun v h' => v = none ∧ Q h')) (zc_X D cA P zc_no) args s C S P) (F0 m 50 ls []) := by
  have hx := X.1
  have hb := X.2.1
  have hown := X.2.2.2.1
  have hts := X.2.2.2.2.1
  intro h v1 hF
  intro H locs ls cells slots hB hl hH
  unfold fc_X9_turn_50 at hF
  refine lv_aload_n hx hb dX9_turn_50 rfl (lv_at hl 0 rfl) ?_
  obtain ⟨hc, hF⟩ := hF
  refine zc_getf X hH hc 8 608 ("ChurchyardBook$Grave", "to", "I", false) (by decide +kernel) (v := .int (zi h 608 o)) rfl q677 (Or.inl rfl) dX9_turn_51 ?_
  refine lv_iconst (v := 1) hx hb dX9_turn_54 (by decide) ?_
  refine lv_iadd hx hb dX9_turn_55 ?_
  exact wc_X9_turn_56 X hN hT hK2 h v1 ((zi h 608 o) + 1) hF _ _ _ _ _ hB (lv_sub hl [0, 1] rfl) hH
set_option maxHeartbeats 4000000 in
set_option maxRecDepth 100000 in
theorem wc_X9_turn_22 {p : Program} {l : Launch} {e : Env} {s : State} {m : MethodId} {args : Array Value} {below : List Frame} {meth : Method} {c : Code} {D : va_G} {cA : Nat → ClassId} {P : Nat → Prop} {G : Nat × Nat × Nat} {C S : Nat} {o : Nat} {Q : ZH → Prop} {K2 : ZH → Int32 → Int32 → Prop} (X : zc_Cx p l s m args meth c cX9_turn 4 none "ChurchyardBook$Grave" D cA P G) (hN : meth.name = "turn") (hT : c.exceptionTable.toList = tableOf []) (hK2 : ∀ (h : ZH) (v1 : Int32) (v2 : Int32), K2 h v1 v2 → ∀ (H : Heap) (locs : List Loc) (ls : Array Slot) (cells slots : Nat), cells + 0 ≤ C ∧ slots + 0 ≤ S → lv_has ls 4 [(0, .ref o), (1, .int v1), (2, .int v2)] → zc_H D cA P h s H locs → W p l e (zc_Ro 5 C S) s m args below meth c H locs cells slots (vx_MQ below (zc_Q D cA P (fun v h' => v = none ∧ Q h')) (zc_X D cA P zc_no) args s C S P) (F0 m 2 ls [])) :
    ∀ (h : ZH) (v1 : Int32), fc_X9_turn_22 G o Q K2 h v1 → ∀ (H : Heap) (locs : List Loc) (ls : Array Slot) (cells slots : Nat), cells + 0 ≤ C ∧ slots + 0 ≤ S → lv_has ls 4 [(0, .ref o), (1, .int v1)] → zc_H D cA P h s H locs → W p l e (zc_Ro 5 C S) s m args below meth c H locs cells slots (vx_MQ below (zc_Q D cA P (fun v h' => v = none ∧ Q h')) (zc_X D cA P zc_no) args s C S P) (F0 m 22 ls []) := by
  have hx := X.1
  have hb := X.2.1
  have hown := X.2.2.2.1
  have hts := X.2.2.2.2.1
  intro h v1 hF
  intro H locs ls cells slots hB hl hH
  unfold fc_X9_turn_22 at hF
  refine lv_aload_n hx hb dX9_turn_22 rfl (lv_at hl 0 rfl) ?_
  obtain ⟨hc, hF⟩ := hF
  refine zc_getf X hH hc 6 606 ("ChurchyardBook$Grave", "state", "I", false) (by decide +kernel) (v := .int (zi h 606 o)) rfl q671 (Or.inl rfl) dX9_turn_23 ?_
  refine lv_iconst (v := 2) hx hb dX9_turn_26 (by decide) ?_
  refine lv_icmp_ne (tgt := 50) hx hb dX9_turn_27 (by decide) (fun cd => ?_) (fun cd => ?_)
  · have hF := hF.1 cd
    exact wc_X9_turn_50 X hN hT hK2 h v1 hF _ _ _ _ _ hB (lv_sub hl [0, 1] rfl) hH
  · have hF := hF.2 cd
    refine lv_aload_n hx hb dX9_turn_30 rfl (lv_at hl 0 rfl) ?_
    obtain ⟨hc, hF⟩ := hF
    refine zc_getf X hH hc 10 610 ("ChurchyardBook$Grave", "date", "I", false) (by decide +kernel) (v := .int (zi h 610 o)) rfl q683 (Or.inl rfl) dX9_turn_31 ?_
    refine lv_aload_n hx hb dX9_turn_34 rfl (lv_at hl 0 rfl) ?_
    obtain ⟨hc, hF⟩ := hF
    refine zc_getf X hH hc 8 608 ("ChurchyardBook$Grave", "to", "I", false) (by decide +kernel) (v := .int (zi h 608 o)) rfl q677 (Or.inl rfl) dX9_turn_35 ?_
    refine lv_icmp_ge (tgt := 50) hx hb dX9_turn_38 (by decide) (fun cd => ?_) (fun cd => ?_)
    · have hF := hF.1 cd
      exact wc_X9_turn_50 X hN hT hK2 h v1 hF _ _ _ _ _ hB (lv_sub hl [0, 1] rfl) hH
    · have hF := hF.2 cd
      refine lv_aload_n hx hb dX9_turn_41 rfl (lv_at hl 0 rfl) ?_
      obtain ⟨hc, hF⟩ := hF
      refine zc_getf X hH hc 10 610 ("ChurchyardBook$Grave", "date", "I", false) (by decide +kernel) (v := .int (zi h 610 o)) rfl q683 (Or.inl rfl) dX9_turn_42 ?_
      refine lv_iconst (v := 1) hx hb dX9_turn_45 (by decide) ?_
      refine lv_iadd hx hb dX9_turn_46 ?_
      refine lv_goto (tgt := 56) hx hb dX9_turn_47 (by decide) ?_
      exact wc_X9_turn_56 X hN hT hK2 h v1 ((zi h 610 o) + 1) hF _ _ _ _ _ hB (lv_sub hl [0, 1] rfl) hH
set_option maxHeartbeats 4000000 in
set_option maxRecDepth 100000 in
theorem wc_X9_turn_2 {p : Program} {l : Launch} {e : Env} {s : State} {m : MethodId} {args : Array Value} {below : List Frame} {meth : Method} {c : Code} {D : va_G} {cA : Nat → ClassId} {P : Nat → Prop} {G : Nat × Nat × Nat} {C S : Nat} {o : Nat} {Q : ZH → Prop} (X : zc_Cx p l s m args meth c cX9_turn 4 none "ChurchyardBook$Grave" D cA P G) (hN : meth.name = "turn") (hT : c.exceptionTable.toList = tableOf []) :
    ∀ (n : Nat) (h : ZH) (v1 : Int32) (v2 : Int32), fc_X9_turn_2 G o Q n h v1 v2 → ∀ (H : Heap) (locs : List Loc) (ls : Array Slot) (cells slots : Nat), cells + 0 ≤ C ∧ slots + 0 ≤ S → lv_has ls 4 [(0, .ref o), (1, .int v1), (2, .int v2)] → zc_H D cA P h s H locs → W p l e (zc_Ro 5 C S) s m args below meth c H locs cells slots (vx_MQ below (zc_Q D cA P (fun v h' => v = none ∧ Q h')) (zc_X D cA P zc_no) args s C S P) (F0 m 2 ls []) := by
  have hx := X.1
  have hb := X.2.1
  have hown := X.2.2.2.1
  have hts := X.2.2.2.2.1
  intro n
  induction n with
  | zero =>
    intro h v1 v2 hF
    exact False.elim hF
  | succ n ih =>
    intro h v1 v2 hF
    intro H locs ls cells slots hB hl hH
    unfold fc_X9_turn_2 at hF
    refine lv_iload_n hx hb dX9_turn_2 rfl (lv_at hl 2 rfl) ?_
    refine lv_if_eq (tgt := 105) hx hb dX9_turn_3 (by decide) (fun cd => ?_) (fun cd => ?_)
    · have hF := hF.1 cd
      exact zc_vret X hH hB rfl ⟨rfl, hF⟩ dX9_turn_105
    · have hF := hF.2 cd
      refine lv_aload_n hx hb dX9_turn_6 rfl (lv_at hl 0 rfl) ?_
      obtain ⟨hc, hF⟩ := hF
      refine zc_getf X hH hc 6 606 ("ChurchyardBook$Grave", "state", "I", false) (by decide +kernel) (v := .int (zi h 606 o)) rfl q671 (Or.inl rfl) dX9_turn_7 ?_
      refine lv_iconst (v := 1) hx hb dX9_turn_10 (by decide) ?_
      refine lv_icmp_eq (tgt := 22) hx hb dX9_turn_11 (by decide) (fun cd => ?_) (fun cd => ?_)
      · have hF := hF.1 cd
        exact wc_X9_turn_22 X hN hT ih h v1 hF _ _ _ _ _ hB (lv_sub hl [0, 1] rfl) hH
      · have hF := hF.2 cd
        refine lv_aload_n hx hb dX9_turn_14 rfl (lv_at hl 0 rfl) ?_
        obtain ⟨hc, hF⟩ := hF
        refine zc_getf X hH hc 6 606 ("ChurchyardBook$Grave", "state", "I", false) (by decide +kernel) (v := .int (zi h 606 o)) rfl q671 (Or.inl rfl) dX9_turn_15 ?_
        refine lv_iconst (v := 2) hx hb dX9_turn_18 (by decide) ?_
        refine lv_icmp_ne (tgt := 105) hx hb dX9_turn_19 (by decide) (fun cd => ?_) (fun cd => ?_)
        · have hF := hF.1 cd
          exact zc_vret X hH hB rfl ⟨rfl, hF⟩ dX9_turn_105
        · have hF := hF.2 cd
          exact wc_X9_turn_22 X hN hT ih h v1 hF _ _ _ _ _ hB (lv_sub hl [0, 1] rfl) hH
set_option maxHeartbeats 4000000 in
set_option maxRecDepth 100000 in
theorem wc_X9_turn {l : Launch} {D : va_G} {cA : Nat → ClassId} {P : Nat → Prop} {G : Nat × Nat × Nat} {o : Nat} {Q : ZH → Prop} {h : ZH} {C S : Nat} {v1 : Int32} (hl9 : l.stackTraces = false) (hF : fc_X9_turn G o Q h v1) :
    zc_M l yX9_turn (ws_ yX9_turn cX9_turn 4 none) 5 D cA P G [.ref o, .int v1] h C S (fun v h' => v = none ∧ Q h') zc_no := by
  refine zc_ofF hl9 rfl (by decide +kernel) (Nat.le_of_ble_eq_true rfl) ?_
  intro p e s m args below meth c H locs ls X hN hT hH hl
  have hx := X.1
  have hb := X.2.1
  have hown := X.2.2.2.1
  have hts := X.2.2.2.2.1
  have hl : lv_has ls 4 [(0, .ref o), (1, .int v1)] := hl
  have hB : 0 + 0 ≤ C ∧ 0 + 0 ≤ S := ⟨by omega, by omega⟩
  unfold fc_X9_turn at hF
  refine lv_iconst (v := 1) hx hb dX9_turn_0 (by decide) ?_
  refine lv_istore_n (lv' := [(2, .int 1), (0, .ref o), (1, .int v1)]) hx hb dX9_turn_1 rfl hl (by decide) rfl (fun ls hl => ?_)
  obtain ⟨n9, hF⟩ := hF
  exact wc_X9_turn_2 X hN hT n9 h v1 1 hF _ _ _ _ _ hB (lv_sub hl [1, 2, 0] rfl) hH
set_option maxHeartbeats 1000000 in
theorem rv_turn_24 {p : Program} {l : Launch} {e : Env} {R : Room} {s : State} {m : MethodId} {args : Array Value} {below : List Frame} {meth : Method} {c : Code} {H : Heap} {locs : List Loc} {cells slots : Nat} {cc : ByteArray} {nL pc : Nat} {ret : Option FieldType} {own : String} {ls : Array Slot} {rest : List Value} {D : va_G} {cA : Nat → ClassId} {P : Nat → Prop} {G : Nat × Nat × Nat} {h : ZH} {C S a idx : Nat} {Q : ZH → Prop} {v1 : Int32} (X : zc_Cx p l s m args meth c cc nL ret own D cA P G) (hH : zc_H D cA P h s H locs) (hlk : Cond.methodLink own idx ⟨"ChurchyardBook$Grave", "turn", "(I)V"⟩ ∈ lw_all) (hF : fv_turn_24 G a Q h v1) (hR : zc_rm R 5 11) (hsize : ls.size = nL) {st0 : List Value} (hst : st0 = ([.int v1] : List Value).reverse ++ .ref a :: rest) (hcat : (rest.map fun v => v.category).sum ≤ 8) (hdg : decode cc pc = .ok (.invokevirtual idx, 3)) (hf : cells + C ≤ R.cells ∧ slots + S ≤ R.slots) :
    vx_Run p l e R s m args below meth c H locs cells slots C S (F0 m pc ls st0) rest (zc_Q D cA P (fun v h' => v = none ∧ Q h') (Value.ref a :: [.int v1]).toArray) (zc_X D cA P zc_no) P := by
  unfold fv_turn_24 at hF
  have hR9 := hR
  obtain ⟨hc, hF⟩ := hF
  simp only [List.mem_cons, List.not_mem_nil, or_false] at hc
  rcases hc with hc | hc | hc | hc | hc | hc
  · have hF := hF (by rw [hc]; decide)
    exact zc_rU X hH hc (by decide) rfl (owner := "ChurchyardBook$Grave") (x := ⟨"ChurchyardBook$Grave", "turn", "(I)V"⟩) (As := [.int v1]) (wc_X9_turn X.2.2.2.2.2.2.2.1 hF) (lw_meth q1421) (X.2.2.2.2.1 _ hlk) (X.2.2.2.2.1 _ q1414) (zc_declC X q1413 q1421) (X.2.2.2.2.1 _ q1419) q1413 q114 ⟨by decide, by decide, rfl⟩ (zc_rm_le hR9 (by decide) (by decide)) rfl hsize hst hcat hdg hf
  · have hF := hF (by rw [hc]; decide)
    exact zc_rU X hH hc (by decide) rfl (owner := "ChurchyardBook$Grave") (x := ⟨"ChurchyardBook$Grave", "turn", "(I)V"⟩) (As := [.int v1]) (wc_X9_turn X.2.2.2.2.2.2.2.1 hF) (lw_meth q1421) (X.2.2.2.2.1 _ hlk) (X.2.2.2.2.1 _ q1414) (zc_declC X q1413 q1421) (X.2.2.2.2.1 _ q1416) q1413 q114 ⟨by decide, by decide, rfl⟩ (zc_rm_le hR9 (by decide) (by decide)) rfl hsize hst hcat hdg hf
  · have hF := hF (by rw [hc]; decide)
    exact zc_rU X hH hc (by decide) rfl (owner := "ChurchyardBook$Grave") (x := ⟨"ChurchyardBook$Grave", "turn", "(I)V"⟩) (As := [.int v1]) (wc_X9_turn X.2.2.2.2.2.2.2.1 hF) (lw_meth q1421) (X.2.2.2.2.1 _ hlk) (X.2.2.2.2.1 _ q1414) (zc_declC X q1413 q1421) (X.2.2.2.2.1 _ q1417) q1413 q114 ⟨by decide, by decide, rfl⟩ (zc_rm_le hR9 (by decide) (by decide)) rfl hsize hst hcat hdg hf
  · have hF := hF (by rw [hc]; decide)
    exact zc_rU X hH hc (by decide) rfl (owner := "ChurchyardBook$Grave") (x := ⟨"ChurchyardBook$Grave", "turn", "(I)V"⟩) (As := [.int v1]) (wc_X9_turn X.2.2.2.2.2.2.2.1 hF) (lw_meth q1421) (X.2.2.2.2.1 _ hlk) (X.2.2.2.2.1 _ q1414) (zc_declC X q1413 q1421) (X.2.2.2.2.1 _ q1420) q1413 q114 ⟨by decide, by decide, rfl⟩ (zc_rm_le hR9 (by decide) (by decide)) rfl hsize hst hcat hdg hf
  · have hF := hF (by rw [hc]; decide)
    exact zc_rU X hH hc (by decide) rfl (owner := "ChurchyardBook$Grave") (x := ⟨"ChurchyardBook$Grave", "turn", "(I)V"⟩) (As := [.int v1]) (wc_X9_turn X.2.2.2.2.2.2.2.1 hF) (lw_meth q1421) (X.2.2.2.2.1 _ hlk) (X.2.2.2.2.1 _ q1414) (zc_declC X q1413 q1421) (X.2.2.2.2.1 _ q1418) q1413 q114 ⟨by decide, by decide, rfl⟩ (zc_rm_le hR9 (by decide) (by decide)) rfl hsize hst hcat hdg hf
  · have hF := hF (by rw [hc]; decide)
    exact zc_rU X hH hc (by decide) rfl (owner := "ChurchyardBook$Grave") (x := ⟨"ChurchyardBook$Grave", "turn", "(I)V"⟩) (As := [.int v1]) (wc_X9_turn X.2.2.2.2.2.2.2.1 hF) (lw_meth q1421) (X.2.2.2.2.1 _ hlk) (X.2.2.2.2.1 _ q1414) (zc_declC X q1413 q1421) (X.2.2.2.2.1 _ q1415) q1413 q114 ⟨by decide, by decide, rfl⟩ (zc_rm_le hR9 (by decide) (by decide)) rfl hsize hst hcat hdg hf
set_option maxHeartbeats 4000000 in
set_option maxRecDepth 100000 in
theorem wc_X5_turn_45 {p : Program} {l : Launch} {e : Env} {s : State} {m : MethodId} {args : Array Value} {below : List Frame} {meth : Method} {c : Code} {D : va_G} {cA : Nat → ClassId} {P : Nat → Prop} {G : Nat × Nat × Nat} {C S : Nat} {o : Nat} {Q : Int32 → ZH → Prop} {XE : String → Nat → ZH → Prop} (X : zc_Cx p l s m args meth c cX5_turn 3 (some .int) "ChurchyardBook$Book" D cA P G) (hN : meth.name = "turn") (hT : c.exceptionTable.toList = tableOf []) :
    ∀ (n : Nat) (h : ZH) (bc bs : Nat) (v2 : Int32), fc_X5_turn_45 G o Q XE n h bc bs v2 → ∀ (H : Heap) (locs : List Loc) (ls : Array Slot) (cells slots : Nat), cells + bc ≤ C ∧ slots + bs ≤ S → lv_has ls 3 [(0, .ref o), (2, .int v2)] → zc_H D cA P h s H locs → W p l e (zc_Ro 6 C S) s m args below meth c H locs cells slots (vx_MQ below (zc_Q D cA P (fun v h' => ∃ z : Int32, v = some (.int z) ∧ Q z h')) (zc_X D cA P XE) args s C S P) (F0 m 45 ls []) := by
  have hx := X.1
  have hb := X.2.1
  have hown := X.2.2.2.1
  have hts := X.2.2.2.2.1
  intro n
  induction n with
  | zero =>
    intro h bc bs v2 hF
    exact False.elim hF
  | succ n ih =>
    intro h bc bs v2 hF
    intro H locs ls cells slots hB hl hH
    unfold fc_X5_turn_45 at hF
    refine lv_iload_n hx hb dX5_turn_45 rfl (lv_at hl 1 rfl) ?_
    refine lv_aload_n hx hb dX5_turn_46 rfl (lv_at hl 0 rfl) ?_
    obtain ⟨hc, hF⟩ := hF
    refine zc_getf X hH hc 1 201 ("ChurchyardBook$Book", "graves", "Ljava/util/ArrayList;", true) (by decide +kernel) (v := va_rf (zr h 201 o)) rfl q190 (Or.inl rfl) dX5_turn_47 ?_
    obtain ⟨b1, eb1, hF⟩ := hF
    refine zq_st (st2 := [.ref b1, .int v2]) (by rw [eb1]; first | done | rfl) ?_
    obtain ⟨hc, hF⟩ := hF
    refine zc_call (c1 := 0) (s1 := 0) (rest := [.int v2]) hH hB (Nat.zero_le _) (Nat.zero_le _) (fun hf => zc_rV X hH hc (by decide) rfl (As := []) (wc_J2_size X.2.2.2.2.2.2.2.1 hF) (lw_V q349 q350 q351 q94 q352) ⟨rfl, by decide, by decide, rfl⟩ ⟨Nat.le_of_ble_eq_true rfl, Nat.le_of_ble_eq_true rfl, Nat.le_of_ble_eq_true rfl⟩ rfl hl.1 (st0 := [.ref b1, .int v2]) rfl (Nat.le_of_ble_eq_true rfl) dX5_turn_50 hf) (fun E9 ce9 q9 h9 H locs hx9 => False.elim hx9) (fun v9 h9 H locs hv9 hH hB => ?_)
    obtain ⟨z2, rfl, hF, rfl⟩ := hv9
    refine lv_icmp_ge (tgt := 80) hx hb dX5_turn_53 (by decide) (fun cd => ?_) (fun cd => ?_)
    · have hF := hF.1 cd
      refine lv_aload_n hx hb dX5_turn_80 rfl (lv_at hl 0 rfl) ?_
      obtain ⟨hc, hF⟩ := hF
      refine zc_getf X hH hc 3 203 ("ChurchyardBook$Book", "today", "I", false) (by decide +kernel) (v := .int (zi h 203 o)) rfl q194 (Or.inl rfl) dX5_turn_81 ?_
      exact zc_iret X hH hB rfl rfl ⟨_, rfl, hF⟩ dX5_turn_84
    · have hF := hF.2 cd
      refine lv_aload_n hx hb dX5_turn_56 rfl (lv_at hl 0 rfl) ?_
      obtain ⟨hc, hF⟩ := hF
      refine zc_getf X hH hc 1 201 ("ChurchyardBook$Book", "graves", "Ljava/util/ArrayList;", true) (by decide +kernel) (v := va_rf (zr h 201 o)) rfl q190 (Or.inl rfl) dX5_turn_57 ?_
      refine lv_iload_n hx hb dX5_turn_60 rfl (lv_at hl 1 rfl) ?_
      refine zq_st (st2 := [.int v2, .ref b1]) (by rw [eb1]; first | done | rfl) ?_
      obtain ⟨hc, hF⟩ := hF
      refine zc_call (c1 := 0) (s1 := 0) (rest := []) hH hB (Nat.zero_le _) (Nat.zero_le _) (fun hf => zc_rV X hH hc (by decide) rfl (As := [.int v2]) (wc_J2_get X.2.2.2.2.2.2.2.1 hF) (lw_V q475 q476 q477 q94 q478) ⟨rfl, by decide, by decide, rfl⟩ ⟨Nat.le_of_ble_eq_true rfl, Nat.le_of_ble_eq_true rfl, Nat.le_of_ble_eq_true rfl⟩ rfl hl.1 (st0 := [.int v2, .ref b1]) rfl (Nat.le_of_ble_eq_true rfl) dX5_turn_61 hf) (fun E9 ce9 q9 h9 H locs hx9 => False.elim hx9) (fun v9 h9 H locs hv9 hH hB => ?_)
      obtain ⟨r3, rfl, hF, rfl⟩ := hv9
      obtain ⟨hR, hF⟩ := hF
      refine zc_castY X hH (r := r3) [8, 9, 10, 11, 12, 13] "ChurchyardBook$Grave" hR (by decide) (by decide +kernel) q531 dX5_turn_64 ?_
      refine lv_aload_n hx hb dX5_turn_67 rfl (lv_at hl 0 rfl) ?_
      obtain ⟨hc, hF⟩ := hF
      refine zc_getf X hH hc 3 203 ("ChurchyardBook$Book", "today", "I", false) (by decide +kernel) (v := .int (zi h 203 o)) rfl q194 (Or.inl rfl) dX5_turn_68 ?_
      obtain ⟨b4, eb4, hF⟩ := hF
      refine zq_st (st2 := [.int (zi h 203 o), .ref b4]) (by rw [eb4]; first | done | rfl) ?_
      refine zc_call (c1 := 0) (s1 := 0) (rest := []) hH hB (Nat.zero_le _) (Nat.zero_le _) (fun hf => rv_turn_24 X hH q1412 hF ⟨Nat.le_of_ble_eq_true rfl, Nat.le_of_ble_eq_true rfl, Nat.le_of_ble_eq_true rfl⟩ hl.1 (st0 := [.int (zi h 203 o), .ref b4]) rfl (Nat.le_of_ble_eq_true rfl) dX5_turn_71 hf) (fun E9 ce9 q9 h9 H locs hx9 => False.elim hx9) (fun v9 h5 H locs hv9 hH hB => ?_)
      obtain ⟨rfl, hF⟩ := hv9
      obtain ⟨x6, ex6⟩ : ∃ z : Int32, z = v2 + 1 := ⟨_, rfl⟩
      have hF := hF x6 ex6
      refine lv_iinc (v := x6) (lv' := [(2, .int x6), (0, .ref o)]) hx hb dX5_turn_74 hl (k := 1) rfl (by rw [ex6]; rfl) (by decide) rfl (fun ls hl => ?_)
      refine lv_goto (tgt := 45) hx hb dX5_turn_77 (by decide) ?_
      exact ih h5 bc bs x6 hF _ _ _ _ _ hB (lv_sub hl [1, 0] rfl) hH
set_option maxHeartbeats 4000000 in
set_option maxRecDepth 100000 in
theorem wc_X5_turn_29 {p : Program} {l : Launch} {e : Env} {s : State} {m : MethodId} {args : Array Value} {below : List Frame} {meth : Method} {c : Code} {D : va_G} {cA : Nat → ClassId} {P : Nat → Prop} {G : Nat × Nat × Nat} {C S : Nat} {o : Nat} {Q : Int32 → ZH → Prop} {XE : String → Nat → ZH → Prop} (X : zc_Cx p l s m args meth c cX5_turn 3 (some .int) "ChurchyardBook$Book" D cA P G) (hN : meth.name = "turn") (hT : c.exceptionTable.toList = tableOf []) :
    ∀ (h : ZH) (bc bs : Nat) (v1 : Int32) (t0 : Int32), fc_X5_turn_29 G o Q XE h bc bs v1 t0 → ∀ (H : Heap) (locs : List Loc) (ls : Array Slot) (cells slots : Nat), cells + bc ≤ C ∧ slots + bs ≤ S → lv_has ls 3 [(0, .ref o), (1, .int v1)] → zc_H D cA P h s H locs → W p l e (zc_Ro 6 C S) s m args below meth c H locs cells slots (vx_MQ below (zc_Q D cA P (fun v h' => ∃ z : Int32, v = some (.int z) ∧ Q z h')) (zc_X D cA P XE) args s C S P) (F0 m 29 ls [.int t0]) := by
  have hx := X.1
  have hb := X.2.1
  have hown := X.2.2.2.1
  have hts := X.2.2.2.2.1
  intro h bc bs v1 t0 hF
  intro H locs ls cells slots hB hl hH
  unfold fc_X5_turn_29 at hF
  refine lv_iconst (v := (-1)) hx hb dX5_turn_29 (by decide) ?_
  obtain ⟨c1, s2, hc1, hs1, hF⟩ := hF
  refine zc_call (c1 := c1) (s1 := s2) (rest := []) hH hB hc1 hs1 (fun hf => zc_rSN X hH (As := [.int t0, .int (-1)]) (host := "ChurchyardBook") (wc_X1_need X.2.2.2.2.2.2.2.1 hF) (lw_meth q265) (by decide +kernel) q87 q264 ⟨by decide, by decide, rfl⟩ ⟨Nat.le_of_ble_eq_true rfl, Nat.le_of_ble_eq_true rfl, Nat.le_of_ble_eq_true rfl⟩ rfl hl.1 (st0 := [.int (-1), .int t0]) rfl (Nat.le_of_ble_eq_true rfl) dX5_turn_30 hf) (fun E9 ce9 q3 h4 H locs hx9 hH hB hce hcv hcl => ?_) (fun v9 h9 H locs hv9 hH hB => ?_)
  · exact zc_out X hH hB (by rw [hT]; intro x hx9; cases hx9) hce hcv hcl hx9
  obtain ⟨rfl, hF, rfl⟩ := hv9
  refine lv_aload_n hx hb dX5_turn_33 rfl (lv_at hl 0 rfl) ?_
  refine lv_dup hx hb dX5_turn_34 rfl ?_
  obtain ⟨hc, hF⟩ := hF
  refine zc_getf X hH hc 3 203 ("ChurchyardBook$Book", "today", "I", false) (by decide +kernel) (v := .int (zi h 203 o)) rfl q194 (Or.inl rfl) dX5_turn_35 ?_
  refine lv_iload_n hx hb dX5_turn_38 rfl (lv_at hl 1 rfl) ?_
  refine lv_iadd hx hb dX5_turn_39 ?_
  obtain ⟨hc, hF⟩ := hF
  refine zc_puti X hH hc 3 203 ("ChurchyardBook$Book", "today", "I", false) (by decide +kernel) rfl q194 (Or.inl rfl) (ty := .int) (by decide +kernel) rfl rfl (Or.inl rfl) dX5_turn_40 (fun h5 H locs eh5 hH => ?_)
  have hF := hF h5 eh5
  refine lv_iconst (v := 0) hx hb dX5_turn_43 (by decide) ?_
  refine lv_istore_n (lv' := [(2, .int 0), (0, .ref o), (1, .int v1)]) hx hb dX5_turn_44 rfl hl (by decide) rfl (fun ls hl => ?_)
  obtain ⟨n9, hF⟩ := hF
  exact wc_X5_turn_45 X hN hT n9 h5 (bc - c1) (bs - s2) 0 hF _ _ _ _ _ hB (lv_sub hl [1, 0] rfl) hH
set_option maxHeartbeats 4000000 in
set_option maxRecDepth 100000 in
theorem wc_X5_turn_28 {p : Program} {l : Launch} {e : Env} {s : State} {m : MethodId} {args : Array Value} {below : List Frame} {meth : Method} {c : Code} {D : va_G} {cA : Nat → ClassId} {P : Nat → Prop} {G : Nat × Nat × Nat} {C S : Nat} {o : Nat} {Q : Int32 → ZH → Prop} {XE : String → Nat → ZH → Prop} (X : zc_Cx p l s m args meth c cX5_turn 3 (some .int) "ChurchyardBook$Book" D cA P G) (hN : meth.name = "turn") (hT : c.exceptionTable.toList = tableOf []) :
    ∀ (h : ZH) (bc bs : Nat) (v1 : Int32), fc_X5_turn_28 G o Q XE h bc bs v1 → ∀ (H : Heap) (locs : List Loc) (ls : Array Slot) (cells slots : Nat), cells + bc ≤ C ∧ slots + bs ≤ S → lv_has ls 3 [(0, .ref o), (1, .int v1)] → zc_H D cA P h s H locs → W p l e (zc_Ro 6 C S) s m args below meth c H locs cells slots (vx_MQ below (zc_Q D cA P (fun v h' => ∃ z : Int32, v = some (.int z) ∧ Q z h')) (zc_X D cA P XE) args s C S P) (F0 m 28 ls []) := by
  have hx := X.1
  have hb := X.2.1
  have hown := X.2.2.2.1
  have hts := X.2.2.2.2.1
  intro h bc bs v1 hF
  intro H locs ls cells slots hB hl hH
  unfold fc_X5_turn_28 at hF
  refine lv_iconst (v := 0) hx hb dX5_turn_28 (by decide) ?_
  exact wc_X5_turn_29 X hN hT h bc bs v1 0 hF _ _ _ _ _ hB (lv_sub hl [0, 1] rfl) hH
set_option maxHeartbeats 4000000 in
set_option maxRecDepth 100000 in
theorem wc_X5_turn {l : Launch} {D : va_G} {cA : Nat → ClassId} {P : Nat → Prop} {G : Nat × Nat × Nat} {o : Nat} {Q : Int32 → ZH → Prop} {XE : String → Nat → ZH → Prop} {h : ZH} {C S : Nat} {v1 : Int32} (hl9 : l.stackTraces = false) (hF : fc_X5_turn G o Q XE h C S v1) :
    zc_M l yX5_turn (ws_ yX5_turn cX5_turn 3 (some .int)) 6 D cA P G [.ref o, .int v1] h C S (fun v h' => ∃ z : Int32, v = some (.int z) ∧ Q z h') XE := by
  refine zc_ofF hl9 rfl (by decide +kernel) (Nat.le_of_ble_eq_true rfl) ?_
  intro p e s m args below meth c H locs ls X hN hT hH hl
  have hx := X.1
  have hb := X.2.1
  have hown := X.2.2.2.1
  have hts := X.2.2.2.2.1
  have hl : lv_has ls 3 [(0, .ref o), (1, .int v1)] := hl
  have hB : 0 + C ≤ C ∧ 0 + S ≤ S := ⟨by omega, by omega⟩
  unfold fc_X5_turn at hF
  refine lv_iload_n hx hb dX5_turn_0 rfl (lv_at hl 1 rfl) ?_
  refine lv_iconst (v := 1) hx hb dX5_turn_1 (by decide) ?_
  refine lv_icmp_lt (tgt := 28) hx hb dX5_turn_2 (by decide) (fun cd => ?_) (fun cd => ?_)
  · have hF := hF.1 cd
    exact wc_X5_turn_28 X hN hT h C S v1 hF _ _ _ _ _ hB (lv_sub hl [0, 1] rfl) hH
  · have hF := hF.2 cd
    refine lv_iload_n hx hb dX5_turn_5 rfl (lv_at hl 1 rfl) ?_
    refine lv_ldcw (v := 40000) hx hb hown (hts _ q1410) dX5_turn_6 ?_
    refine lv_icmp_gt (tgt := 28) hx hb dX5_turn_9 (by decide) (fun cd => ?_) (fun cd => ?_)
    · have hF := hF.1 cd
      exact wc_X5_turn_28 X hN hT h C S v1 hF _ _ _ _ _ hB (lv_sub hl [0, 1] rfl) hH
    · have hF := hF.2 cd
      refine lv_aload_n hx hb dX5_turn_12 rfl (lv_at hl 0 rfl) ?_
      obtain ⟨hc, hF⟩ := hF
      refine zc_getf X hH hc 3 203 ("ChurchyardBook$Book", "today", "I", false) (by decide +kernel) (v := .int (zi h 203 o)) rfl q194 (Or.inl rfl) dX5_turn_13 ?_
      refine lv_iload_n hx hb dX5_turn_16 rfl (lv_at hl 1 rfl) ?_
      refine lv_iadd hx hb dX5_turn_17 ?_
      refine lv_ldcw (v := 200000) hx hb hown (hts _ q1411) dX5_turn_18 ?_
      refine lv_icmp_gt (tgt := 28) hx hb dX5_turn_21 (by decide) (fun cd => ?_) (fun cd => ?_)
      · have hF := hF.1 cd
        exact wc_X5_turn_28 X hN hT h C S v1 hF _ _ _ _ _ hB (lv_sub hl [0, 1] rfl) hH
      · have hF := hF.2 cd
        refine lv_iconst (v := 1) hx hb dX5_turn_24 (by decide) ?_
        refine lv_goto (tgt := 29) hx hb dX5_turn_25 (by decide) ?_
        exact wc_X5_turn_29 X hN hT h C S v1 1 hF _ _ _ _ _ hB (lv_sub hl [0, 1] rfl) hH
set_option maxHeartbeats 4000000 in
set_option maxRecDepth 100000 in
theorem wc_X5_works_127 {p : Program} {l : Launch} {e : Env} {s : State} {m : MethodId} {args : Array Value} {below : List Frame} {meth : Method} {c : Code} {D : va_G} {cA : Nat → ClassId} {P : Nat → Prop} {G : Nat × Nat × Nat} {C S : Nat} {o : Nat} {Q : Int32 → ZH → Prop} {XE : String → Nat → ZH → Prop} (X : zc_Cx p l s m args meth c cX5_works 8 (some .int) "ChurchyardBook$Book" D cA P G) (hN : meth.name = "works") (hT : c.exceptionTable.toList = tableOf []) :
    ∀ (h : ZH) (bc bs : Nat) (v1 : Int32) (v2 : Int32) (v3 : Int32) (v4 : Int32) (v5 : Int32) (v6 : Int32) (t0 : Int32), fc_X5_works_127 G o Q XE h bc bs v1 v2 v3 v4 v5 v6 t0 → ∀ (H : Heap) (locs : List Loc) (ls : Array Slot) (cells slots : Nat), cells + bc ≤ C ∧ slots + bs ≤ S → lv_has ls 8 [(0, .ref o), (1, .int v1), (2, .int v2), (3, .int v3), (4, .int v4), (5, .int v5), (6, .int v6)] → zc_H D cA P h s H locs → W p l e (zc_Ro 12 C S) s m args below meth c H locs cells slots (vx_MQ below (zc_Q D cA P (fun v h' => ∃ z : Int32, v = some (.int z) ∧ Q z h')) (zc_X D cA P XE) args s C S P) (F0 m 127 ls [.int t0]) := by
  have hx := X.1
  have hb := X.2.1
  have hown := X.2.2.2.1
  have hts := X.2.2.2.2.1
  intro h bc bs v1 v2 v3 v4 v5 v6 t0 hF
  intro H locs ls cells slots hB hl hH
  unfold fc_X5_works_127 at hF
  refine lv_iconst (v := (-1)) hx hb dX5_works_127 (by decide) ?_
  obtain ⟨c1, s2, hc1, hs1, hF⟩ := hF
  refine zc_call (c1 := c1) (s1 := s2) (rest := []) hH hB hc1 hs1 (fun hf => zc_rSN X hH (As := [.int t0, .int (-1)]) (host := "ChurchyardBook") (wc_X1_need X.2.2.2.2.2.2.2.1 hF) (lw_meth q265) (by decide +kernel) q87 q264 ⟨by decide, by decide, rfl⟩ ⟨Nat.le_of_ble_eq_true rfl, Nat.le_of_ble_eq_true rfl, Nat.le_of_ble_eq_true rfl⟩ rfl hl.1 (st0 := [.int (-1), .int t0]) rfl (Nat.le_of_ble_eq_true rfl) dX5_works_128 hf) (fun E9 ce9 q3 h4 H locs hx9 hH hB hce hcv hcl => ?_) (fun v9 h9 H locs hv9 hH hB => ?_)
  · exact zc_out X hH hB (by rw [hT]; intro x hx9; cases hx9) hce hcv hcl hx9
  obtain ⟨rfl, hF, rfl⟩ := hv9
  refine lv_iload_n hx hb dX5_works_131 rfl (lv_at hl 1 rfl) ?_
  by_cases hsw : v1.toInt < 1 ∨ 17 < v1.toInt
  · have hF := hF.1 hsw
    refine lv_tableOut (tgt := 355) hx hb dX5_works_132 hsw (by decide) ?_
    refine lv_aload_n hx hb dX5_works_355 rfl (lv_at hl 0 rfl) ?_
    refine lv_iload_n hx hb dX5_works_356 rfl (lv_at hl 2 rfl) ?_
    obtain ⟨hc, hF⟩ := hF
    obtain ⟨c5, s6, hc1, hs1, hF⟩ := hF
    refine zc_call (c1 := c5) (s1 := s6) (rest := []) hH hB hc1 hs1 (fun hf => zc_rV X hH hc (by decide) rfl (As := [.int v2]) (wc_X5_turn X.2.2.2.2.2.2.2.1 hF) (lw_V q1406 q1407 q1408 q91 q1409) ⟨rfl, by decide, by decide, rfl⟩ ⟨Nat.le_of_ble_eq_true rfl, Nat.le_of_ble_eq_true rfl, Nat.le_of_ble_eq_true rfl⟩ rfl hl.1 (st0 := [.int v2, .ref o]) rfl (Nat.le_of_ble_eq_true rfl) dX5_works_357 hf) (fun E9 ce9 q9 h10 H locs hx9 hH hB hce hcv hcl => ?_) (fun v9 h8 H locs hv9 hH hB => ?_)
    · exact zc_out X hH hB (by rw [hT]; intro x hx9; cases hx9) hce hcv hcl hx9
    obtain ⟨z7, rfl, hF⟩ := hv9
    exact zc_iret X hH hB rfl rfl ⟨_, rfl, hF⟩ dX5_works_360
  · have hF := hF.2
    have hsw2 : v1.toInt = 1 ∨ v1.toInt = 2 ∨ v1.toInt = 3 ∨ v1.toInt = 4 ∨ v1.toInt = 5 ∨ v1.toInt = 6 ∨ v1.toInt = 7 ∨ v1.toInt = 8 ∨ v1.toInt = 9 ∨ v1.toInt = 10 ∨ v1.toInt = 11 ∨ v1.toInt = 12 ∨ v1.toInt = 13 ∨ v1.toInt = 14 ∨ v1.toInt = 15 ∨ v1.toInt = 16 ∨ v1.toInt = 17 := by omega
    rcases hsw2 with hk | hk | hk | hk | hk | hk | hk | hk | hk | hk | hk | hk | hk | hk | hk | hk | hk
    · have hF := hF.1 hk
      refine lv_tableIn (tgt := 216) hx hb dX5_works_132 (by rw [hk]; decide) (by rw [hk]; decide) (by rw [hk]; rfl) (by decide) ?_
      refine lv_aload_n hx hb dX5_works_216 rfl (lv_at hl 0 rfl) ?_
      refine lv_iload_n hx hb dX5_works_217 rfl (lv_at hl 2 rfl) ?_
      obtain ⟨hc, hF⟩ := hF
      obtain ⟨c11, s12, hc1, hs1, hF⟩ := hF
      refine zc_call (c1 := c11) (s1 := s12) (rest := []) hH hB hc1 hs1 (fun hf => zc_rV X hH hc (by decide) rfl (As := [.int v2]) (wc_X5_field X.2.2.2.2.2.2.2.1 hF) (lw_V q345 q346 q347 q91 q348) ⟨rfl, by decide, by decide, rfl⟩ ⟨Nat.le_of_ble_eq_true rfl, Nat.le_of_ble_eq_true rfl, Nat.le_of_ble_eq_true rfl⟩ rfl hl.1 (st0 := [.int v2, .ref o]) rfl (Nat.le_of_ble_eq_true rfl) dX5_works_218 hf) (fun E9 ce9 q15 h16 H locs hx9 hH hB hce hcv hcl => ?_) (fun v9 h14 H locs hv9 hH hB => ?_)
      · exact zc_out X hH hB (by rw [hT]; intro x hx9; cases hx9) hce hcv hcl hx9
      obtain ⟨z13, rfl, hF⟩ := hv9
      exact zc_iret X hH hB rfl rfl ⟨_, rfl, hF⟩ dX5_works_221
    · have hF := hF.2.1 hk
      refine lv_tableIn (tgt := 222) hx hb dX5_works_132 (by rw [hk]; decide) (by rw [hk]; decide) (by rw [hk]; rfl) (by decide) ?_
      refine lv_aload_n hx hb dX5_works_222 rfl (lv_at hl 0 rfl) ?_
      refine lv_iload_n hx hb dX5_works_223 rfl (lv_at hl 2 rfl) ?_
      refine lv_iload_n hx hb dX5_works_224 rfl (lv_at hl 3 rfl) ?_
      refine lv_iload hx hb dX5_works_225 (lv_at hl 4 rfl) ?_
      obtain ⟨hc, hF⟩ := hF
      obtain ⟨c17, s18, hc1, hs1, hF⟩ := hF
      refine zc_call (c1 := c17) (s1 := s18) (rest := []) hH hB hc1 hs1 (fun hf => zc_rVW X hH hc (by decide) rfl (As := [.int v2, .int v3, .int v4]) (wc_X5_newRow X.2.2.2.2.2.2.2.1 hF) (lw_VW q441 q442 q443 q91 q444) ⟨rfl, by decide, by decide, rfl⟩ ⟨Nat.le_of_ble_eq_true rfl, Nat.le_of_ble_eq_true rfl, Nat.le_of_ble_eq_true rfl⟩ rfl hl.1 (st0 := [.int v4, .int v3, .int v2, .ref o]) rfl (Nat.le_of_ble_eq_true rfl) dX5_works_227 hf) (fun E9 ce9 q21 h22 H locs hx9 hH hB hce hcv hcl => ?_) (fun v9 h20 H locs hv9 hH hB => ?_)
      · exact zc_out X hH hB (by rw [hT]; intro x hx9; cases hx9) hce hcv hcl hx9
      obtain ⟨z19, rfl, hF⟩ := hv9
      exact zc_iret X hH hB rfl rfl ⟨_, rfl, hF⟩ dX5_works_230
    · have hF := hF.2.2.1 hk
      refine lv_tableIn (tgt := 231) hx hb dX5_works_132 (by rw [hk]; decide) (by rw [hk]; decide) (by rw [hk]; rfl) (by decide) ?_
      refine lv_aload_n hx hb dX5_works_231 rfl (lv_at hl 0 rfl) ?_
      refine lv_iload_n hx hb dX5_works_232 rfl (lv_at hl 2 rfl) ?_
      refine lv_iload_n hx hb dX5_works_233 rfl (lv_at hl 3 rfl) ?_
      obtain ⟨hc, hF⟩ := hF
      obtain ⟨c23, s24, hc1, hs1, hF⟩ := hF
      refine zc_call (c1 := c23) (s1 := s24) (rest := []) hH hB hc1 hs1 (fun hf => zc_rV X hH hc (by decide) rfl (As := [.int v2, .int v3]) (wc_X5_tear X.2.2.2.2.2.2.2.1 hF) (lw_V q501 q502 q503 q91 q504) ⟨rfl, by decide, by decide, rfl⟩ ⟨Nat.le_of_ble_eq_true rfl, Nat.le_of_ble_eq_true rfl, Nat.le_of_ble_eq_true rfl⟩ rfl hl.1 (st0 := [.int v3, .int v2, .ref o]) rfl (Nat.le_of_ble_eq_true rfl) dX5_works_234 hf) (fun E9 ce9 q27 h28 H locs hx9 hH hB hce hcv hcl => ?_) (fun v9 h26 H locs hv9 hH hB => ?_)
      · exact zc_out X hH hB (by rw [hT]; intro x hx9; cases hx9) hce hcv hcl hx9
      obtain ⟨z25, rfl, hF⟩ := hv9
      exact zc_iret X hH hB rfl rfl ⟨_, rfl, hF⟩ dX5_works_237
    · have hF := hF.2.2.2.1 hk
      refine lv_tableIn (tgt := 238) hx hb dX5_works_132 (by rw [hk]; decide) (by rw [hk]; decide) (by rw [hk]; rfl) (by decide) ?_
      refine lv_aload_n hx hb dX5_works_238 rfl (lv_at hl 0 rfl) ?_
      refine lv_iload_n hx hb dX5_works_239 rfl (lv_at hl 2 rfl) ?_
      refine lv_iload_n hx hb dX5_works_240 rfl (lv_at hl 3 rfl) ?_
      refine lv_iload hx hb dX5_works_241 (lv_at hl 4 rfl) ?_
      refine lv_iload hx hb dX5_works_243 (lv_at hl 5 rfl) ?_
      obtain ⟨hc, hF⟩ := hF
      obtain ⟨c29, s30, hc1, hs1, hF⟩ := hF
      refine zc_call (c1 := c29) (s1 := s30) (rest := []) hH hB hc1 hs1 (fun hf => zc_rV X hH hc (by decide) rfl (As := [.int v2, .int v3, .int v4, .int v5]) (wc_X5_place X.2.2.2.2.2.2.2.1 hF) (lw_V q532 q533 q534 q91 q535) ⟨rfl, by decide, by decide, rfl⟩ ⟨Nat.le_of_ble_eq_true rfl, Nat.le_of_ble_eq_true rfl, Nat.le_of_ble_eq_true rfl⟩ rfl hl.1 (st0 := [.int v5, .int v4, .int v3, .int v2, .ref o]) rfl (Nat.le_of_ble_eq_true rfl) dX5_works_245 hf) (fun E9 ce9 q33 h34 H locs hx9 hH hB hce hcv hcl => ?_) (fun v9 h32 H locs hv9 hH hB => ?_)
      · exact zc_out X hH hB (by rw [hT]; intro x hx9; cases hx9) hce hcv hcl hx9
      obtain ⟨z31, rfl, hF⟩ := hv9
      exact zc_iret X hH hB rfl rfl ⟨_, rfl, hF⟩ dX5_works_248
    · have hF := hF.2.2.2.2.1 hk
      refine lv_tableIn (tgt := 249) hx hb dX5_works_132 (by rw [hk]; decide) (by rw [hk]; decide) (by rw [hk]; rfl) (by decide) ?_
      refine lv_aload_n hx hb dX5_works_249 rfl (lv_at hl 0 rfl) ?_
      refine lv_iload_n hx hb dX5_works_250 rfl (lv_at hl 2 rfl) ?_
      refine lv_iload_n hx hb dX5_works_251 rfl (lv_at hl 3 rfl) ?_
      refine lv_iload hx hb dX5_works_252 (lv_at hl 4 rfl) ?_
      refine lv_iload hx hb dX5_works_254 (lv_at hl 5 rfl) ?_
      refine lv_iload hx hb dX5_works_256 (lv_at hl 6 rfl) ?_
      obtain ⟨hc, hF⟩ := hF
      obtain ⟨c35, s36, hc1, hs1, hF⟩ := hF
      refine zc_call (c1 := c35) (s1 := s36) (rest := []) hH hB hc1 hs1 (fun hf => zc_rV X hH hc (by decide) rfl (As := [.int v2, .int v3, .int v4, .int v5, .int v6]) (wc_X5_newGrave X.2.2.2.2.2.2.2.1 hF) (lw_V q624 q625 q626 q91 q627) ⟨rfl, by decide, by decide, rfl⟩ ⟨Nat.le_of_ble_eq_true rfl, Nat.le_of_ble_eq_true rfl, Nat.le_of_ble_eq_true rfl⟩ rfl hl.1 (st0 := [.int v6, .int v5, .int v4, .int v3, .int v2, .ref o]) rfl (Nat.le_of_ble_eq_true rfl) dX5_works_258 hf) (fun E9 ce9 q39 h40 H locs hx9 hH hB hce hcv hcl => ?_) (fun v9 h38 H locs hv9 hH hB => ?_)
      · exact zc_out X hH hB (by rw [hT]; intro x hx9; cases hx9) hce hcv hcl hx9
      obtain ⟨z37, rfl, hF⟩ := hv9
      exact zc_iret X hH hB rfl rfl ⟨_, rfl, hF⟩ dX5_works_261
    · have hF := hF.2.2.2.2.2.1 hk
      refine lv_tableIn (tgt := 262) hx hb dX5_works_132 (by rw [hk]; decide) (by rw [hk]; decide) (by rw [hk]; rfl) (by decide) ?_
      refine lv_aload_n hx hb dX5_works_262 rfl (lv_at hl 0 rfl) ?_
      refine lv_iload_n hx hb dX5_works_263 rfl (lv_at hl 2 rfl) ?_
      obtain ⟨hc, hF⟩ := hF
      obtain ⟨c41, s42, hc1, hs1, hF⟩ := hF
      refine zc_call (c1 := c41) (s1 := s42) (rest := []) hH hB hc1 hs1 (fun hf => zc_rV X hH hc (by decide) rfl (As := [.int v2]) (wc_X5_newPerson X.2.2.2.2.2.2.2.1 hF) (lw_V q848 q849 q850 q91 q851) ⟨rfl, by decide, by decide, rfl⟩ ⟨Nat.le_of_ble_eq_true rfl, Nat.le_of_ble_eq_true rfl, Nat.le_of_ble_eq_true rfl⟩ rfl hl.1 (st0 := [.int v2, .ref o]) rfl (Nat.le_of_ble_eq_true rfl) dX5_works_264 hf) (fun E9 ce9 q45 h46 H locs hx9 hH hB hce hcv hcl => ?_) (fun v9 h44 H locs hv9 hH hB => ?_)
      · exact zc_out X hH hB (by rw [hT]; intro x hx9; cases hx9) hce hcv hcl hx9
      obtain ⟨z43, rfl, hF⟩ := hv9
      exact zc_iret X hH hB rfl rfl ⟨_, rfl, hF⟩ dX5_works_267
    · have hF := hF.2.2.2.2.2.2.1 hk
      refine lv_tableIn (tgt := 268) hx hb dX5_works_132 (by rw [hk]; decide) (by rw [hk]; decide) (by rw [hk]; rfl) (by decide) ?_
      refine lv_aload_n hx hb dX5_works_268 rfl (lv_at hl 0 rfl) ?_
      refine lv_iload_n hx hb dX5_works_269 rfl (lv_at hl 2 rfl) ?_
      refine lv_iload_n hx hb dX5_works_270 rfl (lv_at hl 3 rfl) ?_
      refine lv_iload hx hb dX5_works_271 (lv_at hl 4 rfl) ?_
      obtain ⟨hc, hF⟩ := hF
      obtain ⟨c47, s48, hc1, hs1, hF⟩ := hF
      refine zc_call (c1 := c47) (s1 := s48) (rest := []) hH hB hc1 hs1 (fun hf => zc_rV X hH hc (by decide) rfl (As := [.int v2, .int v3, .int v4]) (wc_X5_kin X.2.2.2.2.2.2.2.1 hF) (lw_V q933 q934 q935 q91 q936) ⟨rfl, by decide, by decide, rfl⟩ ⟨Nat.le_of_ble_eq_true rfl, Nat.le_of_ble_eq_true rfl, Nat.le_of_ble_eq_true rfl⟩ rfl hl.1 (st0 := [.int v4, .int v3, .int v2, .ref o]) rfl (Nat.le_of_ble_eq_true rfl) dX5_works_273 hf) (fun E9 ce9 q51 h52 H locs hx9 hH hB hce hcv hcl => ?_) (fun v9 h50 H locs hv9 hH hB => ?_)
      · exact zc_out X hH hB (by rw [hT]; intro x hx9; cases hx9) hce hcv hcl hx9
      obtain ⟨z49, rfl, hF⟩ := hv9
      exact zc_iret X hH hB rfl rfl ⟨_, rfl, hF⟩ dX5_works_276
    · have hF := hF.2.2.2.2.2.2.2.1 hk
      refine lv_tableIn (tgt := 277) hx hb dX5_works_132 (by rw [hk]; decide) (by rw [hk]; decide) (by rw [hk]; rfl) (by decide) ?_
      refine lv_aload_n hx hb dX5_works_277 rfl (lv_at hl 0 rfl) ?_
      refine lv_iload_n hx hb dX5_works_278 rfl (lv_at hl 2 rfl) ?_
      refine lv_iload_n hx hb dX5_works_279 rfl (lv_at hl 3 rfl) ?_
      obtain ⟨hc, hF⟩ := hF
      obtain ⟨c53, s54, hc1, hs1, hF⟩ := hF
      refine zc_call (c1 := c53) (s1 := s54) (rest := []) hH hB hc1 hs1 (fun hf => zc_rV X hH hc (by decide) rfl (As := [.int v2, .int v3]) (wc_X5_paper X.2.2.2.2.2.2.2.1 hF) (lw_V q945 q946 q947 q91 q948) ⟨rfl, by decide, by decide, rfl⟩ ⟨Nat.le_of_ble_eq_true rfl, Nat.le_of_ble_eq_true rfl, Nat.le_of_ble_eq_true rfl⟩ rfl hl.1 (st0 := [.int v3, .int v2, .ref o]) rfl (Nat.le_of_ble_eq_true rfl) dX5_works_280 hf) (fun E9 ce9 q57 h58 H locs hx9 hH hB hce hcv hcl => ?_) (fun v9 h56 H locs hv9 hH hB => ?_)
      · exact zc_out X hH hB (by rw [hT]; intro x hx9; cases hx9) hce hcv hcl hx9
      obtain ⟨z55, rfl, hF⟩ := hv9
      exact zc_iret X hH hB rfl rfl ⟨_, rfl, hF⟩ dX5_works_283
    · have hF := hF.2.2.2.2.2.2.2.2.1 hk
      refine lv_tableIn (tgt := 284) hx hb dX5_works_132 (by rw [hk]; decide) (by rw [hk]; decide) (by rw [hk]; rfl) (by decide) ?_
      refine lv_aload_n hx hb dX5_works_284 rfl (lv_at hl 0 rfl) ?_
      refine lv_iload_n hx hb dX5_works_285 rfl (lv_at hl 2 rfl) ?_
      refine lv_iload_n hx hb dX5_works_286 rfl (lv_at hl 3 rfl) ?_
      refine lv_iload hx hb dX5_works_287 (lv_at hl 4 rfl) ?_
      obtain ⟨hc, hF⟩ := hF
      obtain ⟨c59, s60, hc1, hs1, hF⟩ := hF
      refine zc_call (c1 := c59) (s1 := s60) (rest := []) hH hB hc1 hs1 (fun hf => zc_rV X hH hc (by decide) rfl (As := [.int v2, .int v3, .int v4]) (wc_X5_right X.2.2.2.2.2.2.2.1 hF) (lw_V q949 q950 q951 q91 q952) ⟨rfl, by decide, by decide, rfl⟩ ⟨Nat.le_of_ble_eq_true rfl, Nat.le_of_ble_eq_true rfl, Nat.le_of_ble_eq_true rfl⟩ rfl hl.1 (st0 := [.int v4, .int v3, .int v2, .ref o]) rfl (Nat.le_of_ble_eq_true rfl) dX5_works_289 hf) (fun E9 ce9 q63 h64 H locs hx9 hH hB hce hcv hcl => ?_) (fun v9 h62 H locs hv9 hH hB => ?_)
      · exact zc_out X hH hB (by rw [hT]; intro x hx9; cases hx9) hce hcv hcl hx9
      obtain ⟨z61, rfl, hF⟩ := hv9
      exact zc_iret X hH hB rfl rfl ⟨_, rfl, hF⟩ dX5_works_292
    · have hF := hF.2.2.2.2.2.2.2.2.2.1 hk
      refine lv_tableIn (tgt := 293) hx hb dX5_works_132 (by rw [hk]; decide) (by rw [hk]; decide) (by rw [hk]; rfl) (by decide) ?_
      refine lv_aload_n hx hb dX5_works_293 rfl (lv_at hl 0 rfl) ?_
      refine lv_iload_n hx hb dX5_works_294 rfl (lv_at hl 2 rfl) ?_
      refine lv_iload_n hx hb dX5_works_295 rfl (lv_at hl 3 rfl) ?_
      obtain ⟨hc, hF⟩ := hF
      obtain ⟨c65, s66, hc1, hs1, hF⟩ := hF
      refine zc_call (c1 := c65) (s1 := s66) (rest := []) hH hB hc1 hs1 (fun hf => zc_rV X hH hc (by decide) rfl (As := [.int v2, .int v3]) (wc_X5_longer X.2.2.2.2.2.2.2.1 hF) (lw_V q1002 q1003 q1004 q91 q1005) ⟨rfl, by decide, by decide, rfl⟩ ⟨Nat.le_of_ble_eq_true rfl, Nat.le_of_ble_eq_true rfl, Nat.le_of_ble_eq_true rfl⟩ rfl hl.1 (st0 := [.int v3, .int v2, .ref o]) rfl (Nat.le_of_ble_eq_true rfl) dX5_works_296 hf) (fun E9 ce9 q69 h70 H locs hx9 hH hB hce hcv hcl => ?_) (fun v9 h68 H locs hv9 hH hB => ?_)
      · exact zc_out X hH hB (by rw [hT]; intro x hx9; cases hx9) hce hcv hcl hx9
      obtain ⟨z67, rfl, hF⟩ := hv9
      exact zc_iret X hH hB rfl rfl ⟨_, rfl, hF⟩ dX5_works_299
    · have hF := hF.2.2.2.2.2.2.2.2.2.2.1 hk
      refine lv_tableIn (tgt := 300) hx hb dX5_works_132 (by rw [hk]; decide) (by rw [hk]; decide) (by rw [hk]; rfl) (by decide) ?_
      refine lv_aload_n hx hb dX5_works_300 rfl (lv_at hl 0 rfl) ?_
      refine lv_iload_n hx hb dX5_works_301 rfl (lv_at hl 2 rfl) ?_
      refine lv_iload_n hx hb dX5_works_302 rfl (lv_at hl 3 rfl) ?_
      refine lv_iload hx hb dX5_works_303 (lv_at hl 4 rfl) ?_
      obtain ⟨hc, hF⟩ := hF
      obtain ⟨c71, s72, hc1, hs1, hF⟩ := hF
      refine zc_call (c1 := c71) (s1 := s72) (rest := []) hH hB hc1 hs1 (fun hf => zc_rV X hH hc (by decide) rfl (As := [.int v2, .int v3, .int v4]) (wc_X5_agree X.2.2.2.2.2.2.2.1 hF) (lw_V q1006 q1007 q1008 q91 q1009) ⟨rfl, by decide, by decide, rfl⟩ ⟨Nat.le_of_ble_eq_true rfl, Nat.le_of_ble_eq_true rfl, Nat.le_of_ble_eq_true rfl⟩ rfl hl.1 (st0 := [.int v4, .int v3, .int v2, .ref o]) rfl (Nat.le_of_ble_eq_true rfl) dX5_works_305 hf) (fun E9 ce9 q75 h76 H locs hx9 hH hB hce hcv hcl => ?_) (fun v9 h74 H locs hv9 hH hB => ?_)
      · exact zc_out X hH hB (by rw [hT]; intro x hx9; cases hx9) hce hcv hcl hx9
      obtain ⟨z73, rfl, hF⟩ := hv9
      exact zc_iret X hH hB rfl rfl ⟨_, rfl, hF⟩ dX5_works_308
    · have hF := hF.2.2.2.2.2.2.2.2.2.2.2.1 hk
      refine lv_tableIn (tgt := 309) hx hb dX5_works_132 (by rw [hk]; decide) (by rw [hk]; decide) (by rw [hk]; rfl) (by decide) ?_
      refine lv_aload_n hx hb dX5_works_309 rfl (lv_at hl 0 rfl) ?_
      refine lv_iload_n hx hb dX5_works_310 rfl (lv_at hl 2 rfl) ?_
      obtain ⟨hc, hF⟩ := hF
      obtain ⟨c77, s78, hc1, hs1, hF⟩ := hF
      refine zc_call (c1 := c77) (s1 := s78) (rest := []) hH hB hc1 hs1 (fun hf => zc_rV X hH hc (by decide) rfl (As := [.int v2]) (wc_X5_dies X.2.2.2.2.2.2.2.1 hF) (lw_V q1010 q1011 q1012 q91 q1013) ⟨rfl, by decide, by decide, rfl⟩ ⟨Nat.le_of_ble_eq_true rfl, Nat.le_of_ble_eq_true rfl, Nat.le_of_ble_eq_true rfl⟩ rfl hl.1 (st0 := [.int v2, .ref o]) rfl (Nat.le_of_ble_eq_true rfl) dX5_works_311 hf) (fun E9 ce9 q81 h82 H locs hx9 hH hB hce hcv hcl => ?_) (fun v9 h80 H locs hv9 hH hB => ?_)
      · exact zc_out X hH hB (by rw [hT]; intro x hx9; cases hx9) hce hcv hcl hx9
      obtain ⟨z79, rfl, hF⟩ := hv9
      exact zc_iret X hH hB rfl rfl ⟨_, rfl, hF⟩ dX5_works_314
    · have hF := hF.2.2.2.2.2.2.2.2.2.2.2.2.1 hk
      refine lv_tableIn (tgt := 315) hx hb dX5_works_132 (by rw [hk]; decide) (by rw [hk]; decide) (by rw [hk]; rfl) (by decide) ?_
      refine lv_aload_n hx hb dX5_works_315 rfl (lv_at hl 0 rfl) ?_
      refine lv_iload_n hx hb dX5_works_316 rfl (lv_at hl 2 rfl) ?_
      obtain ⟨hc, hF⟩ := hF
      obtain ⟨c83, s84, hc1, hs1, hF⟩ := hF
      refine zc_call (c1 := c83) (s1 := s84) (rest := []) hH hB hc1 hs1 (fun hf => zc_rV X hH hc (by decide) rfl (As := [.int v2]) (wc_X5_takes X.2.2.2.2.2.2.2.1 hF) (lw_V q1091 q1092 q1093 q91 q1094) ⟨rfl, by decide, by decide, rfl⟩ ⟨Nat.le_of_ble_eq_true rfl, Nat.le_of_ble_eq_true rfl, Nat.le_of_ble_eq_true rfl⟩ rfl hl.1 (st0 := [.int v2, .ref o]) rfl (Nat.le_of_ble_eq_true rfl) dX5_works_317 hf) (fun E9 ce9 q87 h88 H locs hx9 hH hB hce hcv hcl => ?_) (fun v9 h86 H locs hv9 hH hB => ?_)
      · exact zc_out X hH hB (by rw [hT]; intro x hx9; cases hx9) hce hcv hcl hx9
      obtain ⟨z85, rfl, hF⟩ := hv9
      exact zc_iret X hH hB rfl rfl ⟨_, rfl, hF⟩ dX5_works_320
    · have hF := hF.2.2.2.2.2.2.2.2.2.2.2.2.2.1 hk
      refine lv_tableIn (tgt := 321) hx hb dX5_works_132 (by rw [hk]; decide) (by rw [hk]; decide) (by rw [hk]; rfl) (by decide) ?_
      refine lv_aload_n hx hb dX5_works_321 rfl (lv_at hl 0 rfl) ?_
      refine lv_iload_n hx hb dX5_works_322 rfl (lv_at hl 2 rfl) ?_
      obtain ⟨hc, hF⟩ := hF
      obtain ⟨c89, s90, hc1, hs1, hF⟩ := hF
      refine zc_call (c1 := c89) (s1 := s90) (rest := []) hH hB hc1 hs1 (fun hf => zc_rV X hH hc (by decide) rfl (As := [.int v2]) (wc_X5_refuses X.2.2.2.2.2.2.2.1 hF) (lw_V q1099 q1100 q1101 q91 q1102) ⟨rfl, by decide, by decide, rfl⟩ ⟨Nat.le_of_ble_eq_true rfl, Nat.le_of_ble_eq_true rfl, Nat.le_of_ble_eq_true rfl⟩ rfl hl.1 (st0 := [.int v2, .ref o]) rfl (Nat.le_of_ble_eq_true rfl) dX5_works_323 hf) (fun E9 ce9 q93 h94 H locs hx9 hH hB hce hcv hcl => ?_) (fun v9 h92 H locs hv9 hH hB => ?_)
      · exact zc_out X hH hB (by rw [hT]; intro x hx9; cases hx9) hce hcv hcl hx9
      obtain ⟨z91, rfl, hF⟩ := hv9
      exact zc_iret X hH hB rfl rfl ⟨_, rfl, hF⟩ dX5_works_326
    · have hF := hF.2.2.2.2.2.2.2.2.2.2.2.2.2.2.1 hk
      refine lv_tableIn (tgt := 327) hx hb dX5_works_132 (by rw [hk]; decide) (by rw [hk]; decide) (by rw [hk]; rfl) (by decide) ?_
      refine lv_aload_n hx hb dX5_works_327 rfl (lv_at hl 0 rfl) ?_
      refine lv_iload_n hx hb dX5_works_328 rfl (lv_at hl 2 rfl) ?_
      refine lv_iload_n hx hb dX5_works_329 rfl (lv_at hl 3 rfl) ?_
      refine lv_iload hx hb dX5_works_330 (lv_at hl 4 rfl) ?_
      refine lv_iload hx hb dX5_works_332 (lv_at hl 5 rfl) ?_
      obtain ⟨hc, hF⟩ := hF
      obtain ⟨c95, s96, hc1, hs1, hF⟩ := hF
      refine zc_call (c1 := c95) (s1 := s96) (rest := []) hH hB hc1 hs1 (fun hf => zc_rV X hH hc (by decide) rfl (As := [.int v2, .int v3, .int v4, .int v5]) (wc_X5_bury X.2.2.2.2.2.2.2.1 hF) (lw_V q1103 q1104 q1105 q91 q1106) ⟨rfl, by decide, by decide, rfl⟩ ⟨Nat.le_of_ble_eq_true rfl, Nat.le_of_ble_eq_true rfl, Nat.le_of_ble_eq_true rfl⟩ rfl hl.1 (st0 := [.int v5, .int v4, .int v3, .int v2, .ref o]) rfl (Nat.le_of_ble_eq_true rfl) dX5_works_334 hf) (fun E9 ce9 q99 h100 H locs hx9 hH hB hce hcv hcl => ?_) (fun v9 h98 H locs hv9 hH hB => ?_)
      · exact zc_out X hH hB (by rw [hT]; intro x hx9; cases hx9) hce hcv hcl hx9
      obtain ⟨z97, rfl, hF⟩ := hv9
      exact zc_iret X hH hB rfl rfl ⟨_, rfl, hF⟩ dX5_works_337
    · have hF := hF.2.2.2.2.2.2.2.2.2.2.2.2.2.2.2.1 hk
      refine lv_tableIn (tgt := 338) hx hb dX5_works_132 (by rw [hk]; decide) (by rw [hk]; decide) (by rw [hk]; rfl) (by decide) ?_
      refine lv_aload_n hx hb dX5_works_338 rfl (lv_at hl 0 rfl) ?_
      refine lv_iload_n hx hb dX5_works_339 rfl (lv_at hl 2 rfl) ?_
      refine lv_iload_n hx hb dX5_works_340 rfl (lv_at hl 3 rfl) ?_
      refine lv_iload hx hb dX5_works_341 (lv_at hl 4 rfl) ?_
      refine lv_iload hx hb dX5_works_343 (lv_at hl 5 rfl) ?_
      obtain ⟨hc, hF⟩ := hF
      obtain ⟨c101, s102, hc1, hs1, hF⟩ := hF
      refine zc_call (c1 := c101) (s1 := s102) (rest := []) hH hB hc1 hs1 (fun hf => zc_rV X hH hc (by decide) rfl (As := [.int v2, .int v3, .int v4, .int v5]) (wc_X5_move X.2.2.2.2.2.2.2.1 hF) (lw_V q1333 q1334 q1335 q91 q1336) ⟨rfl, by decide, by decide, rfl⟩ ⟨Nat.le_of_ble_eq_true rfl, Nat.le_of_ble_eq_true rfl, Nat.le_of_ble_eq_true rfl⟩ rfl hl.1 (st0 := [.int v5, .int v4, .int v3, .int v2, .ref o]) rfl (Nat.le_of_ble_eq_true rfl) dX5_works_345 hf) (fun E9 ce9 q105 h106 H locs hx9 hH hB hce hcv hcl => ?_) (fun v9 h104 H locs hv9 hH hB => ?_)
      · exact zc_out X hH hB (by rw [hT]; intro x hx9; cases hx9) hce hcv hcl hx9
      obtain ⟨z103, rfl, hF⟩ := hv9
      exact zc_iret X hH hB rfl rfl ⟨_, rfl, hF⟩ dX5_works_348
    · have hF := hF.2.2.2.2.2.2.2.2.2.2.2.2.2.2.2.2 hk
      refine lv_tableIn (tgt := 349) hx hb dX5_works_132 (by rw [hk]; decide) (by rw [hk]; decide) (by rw [hk]; rfl) (by decide) ?_
      refine lv_aload_n hx hb dX5_works_349 rfl (lv_at hl 0 rfl) ?_
      refine lv_iload_n hx hb dX5_works_350 rfl (lv_at hl 2 rfl) ?_
      obtain ⟨hc, hF⟩ := hF
      obtain ⟨c107, s108, hc1, hs1, hF⟩ := hF
      refine zc_call (c1 := c107) (s1 := s108) (rest := []) hH hB hc1 hs1 (fun hf => zc_rV X hH hc (by decide) rfl (As := [.int v2]) (wc_X5_clear X.2.2.2.2.2.2.2.1 hF) (lw_V q1357 q1358 q1359 q91 q1360) ⟨rfl, by decide, by decide, rfl⟩ ⟨Nat.le_of_ble_eq_true rfl, Nat.le_of_ble_eq_true rfl, Nat.le_of_ble_eq_true rfl⟩ rfl hl.1 (st0 := [.int v2, .ref o]) rfl (Nat.le_of_ble_eq_true rfl) dX5_works_351 hf) (fun E9 ce9 q111 h112 H locs hx9 hH hB hce hcv hcl => ?_) (fun v9 h110 H locs hv9 hH hB => ?_)
      · exact zc_out X hH hB (by rw [hT]; intro x hx9; cases hx9) hce hcv hcl hx9
      obtain ⟨z109, rfl, hF⟩ := hv9
      exact zc_iret X hH hB rfl rfl ⟨_, rfl, hF⟩ dX5_works_354
set_option maxHeartbeats 4000000 in
set_option maxRecDepth 100000 in
theorem wc_X5_works_115 {p : Program} {l : Launch} {e : Env} {s : State} {m : MethodId} {args : Array Value} {below : List Frame} {meth : Method} {c : Code} {D : va_G} {cA : Nat → ClassId} {P : Nat → Prop} {G : Nat × Nat × Nat} {C S : Nat} {o : Nat} {Q : Int32 → ZH → Prop} {XE : String → Nat → ZH → Prop} (X : zc_Cx p l s m args meth c cX5_works 8 (some .int) "ChurchyardBook$Book" D cA P G) (hN : meth.name = "works") (hT : c.exceptionTable.toList = tableOf []) :
    ∀ (h : ZH) (bc bs : Nat) (v1 : Int32) (v2 : Int32) (v3 : Int32) (v4 : Int32) (v5 : Int32) (v6 : Int32) (t0 : Int32), fc_X5_works_115 G o Q XE h bc bs v1 v2 v3 v4 v5 v6 t0 → ∀ (H : Heap) (locs : List Loc) (ls : Array Slot) (cells slots : Nat), cells + bc ≤ C ∧ slots + bs ≤ S → lv_has ls 8 [(0, .ref o), (1, .int v1), (2, .int v2), (3, .int v3), (4, .int v4), (5, .int v5), (6, .int v6)] → zc_H D cA P h s H locs → W p l e (zc_Ro 12 C S) s m args below meth c H locs cells slots (vx_MQ below (zc_Q D cA P (fun v h' => ∃ z : Int32, v = some (.int z) ∧ Q z h')) (zc_X D cA P XE) args s C S P) (F0 m 115 ls [.int t0]) := by
  have hx := X.1
  have hb := X.2.1
  have hown := X.2.2.2.1
  have hts := X.2.2.2.2.1
  intro h bc bs v1 v2 v3 v4 v5 v6 t0 hF
  intro H locs ls cells slots hB hl hH
  unfold fc_X5_works_115 at hF
  refine lv_istore (lv' := [(7, .int t0), (0, .ref o), (1, .int v1), (2, .int v2), (3, .int v3), (4, .int v4), (5, .int v5), (6, .int v6)]) hx hb dX5_works_115 hl (by decide) rfl (fun ls hl => ?_)
  refine lv_iload hx hb dX5_works_117 (lv_at hl 0 rfl) ?_
  refine lv_if_ne (tgt := 126) hx hb dX5_works_119 (by decide) (fun cd => ?_) (fun cd => ?_)
  · have hF := hF.1 cd
    refine lv_iconst (v := 0) hx hb dX5_works_126 (by decide) ?_
    exact wc_X5_works_127 X hN hT h bc bs v1 v2 v3 v4 v5 v6 0 hF _ _ _ _ _ hB (lv_sub hl [1, 2, 3, 4, 5, 6, 7] rfl) hH
  · have hF := hF.2 cd
    refine lv_iconst (v := 1) hx hb dX5_works_122 (by decide) ?_
    refine lv_goto (tgt := 127) hx hb dX5_works_123 (by decide) ?_
    exact wc_X5_works_127 X hN hT h bc bs v1 v2 v3 v4 v5 v6 1 hF _ _ _ _ _ hB (lv_sub hl [1, 2, 3, 4, 5, 6, 7] rfl) hH
set_option maxHeartbeats 4000000 in
set_option maxRecDepth 100000 in
theorem wc_X5_works_94 {p : Program} {l : Launch} {e : Env} {s : State} {m : MethodId} {args : Array Value} {below : List Frame} {meth : Method} {c : Code} {D : va_G} {cA : Nat → ClassId} {P : Nat → Prop} {G : Nat × Nat × Nat} {C S : Nat} {o : Nat} {Q : Int32 → ZH → Prop} {XE : String → Nat → ZH → Prop} (X : zc_Cx p l s m args meth c cX5_works 8 (some .int) "ChurchyardBook$Book" D cA P G) (hN : meth.name = "works") (hT : c.exceptionTable.toList = tableOf []) :
    ∀ (h : ZH) (bc bs : Nat) (v1 : Int32) (v2 : Int32) (v3 : Int32) (v4 : Int32) (v5 : Int32) (v6 : Int32), fc_X5_works_94 G o Q XE h bc bs v1 v2 v3 v4 v5 v6 → ∀ (H : Heap) (locs : List Loc) (ls : Array Slot) (cells slots : Nat), cells + bc ≤ C ∧ slots + bs ≤ S → lv_has ls 8 [(0, .ref o), (1, .int v1), (2, .int v2), (3, .int v3), (4, .int v4), (5, .int v5), (6, .int v6)] → zc_H D cA P h s H locs → W p l e (zc_Ro 12 C S) s m args below meth c H locs cells slots (vx_MQ below (zc_Q D cA P (fun v h' => ∃ z : Int32, v = some (.int z) ∧ Q z h')) (zc_X D cA P XE) args s C S P) (F0 m 94 ls []) := by
  have hx := X.1
  have hb := X.2.1
  have hown := X.2.2.2.1
  have hts := X.2.2.2.2.1
  intro h bc bs v1 v2 v3 v4 v5 v6 hF
  intro H locs ls cells slots hB hl hH
  unfold fc_X5_works_94 at hF
  refine lv_iload hx hb dX5_works_94 (lv_at hl 4 rfl) ?_
  refine lv_iload hx hb dX5_works_96 (lv_at hl 5 rfl) ?_
  refine lv_ior hx hb dX5_works_98 ?_
  refine lv_iload hx hb dX5_works_99 (lv_at hl 6 rfl) ?_
  refine lv_ior hx hb dX5_works_101 ?_
  refine lv_goto (tgt := 115) hx hb dX5_works_102 (by decide) ?_
  exact wc_X5_works_115 X hN hT h bc bs v1 v2 v3 v4 v5 v6 ((v4 ||| v5) ||| v6) hF _ _ _ _ _ hB (lv_sub hl [0, 1, 2, 3, 4, 5, 6] rfl) hH
set_option maxHeartbeats 4000000 in
set_option maxRecDepth 100000 in
theorem wc_X5_works_69 {p : Program} {l : Launch} {e : Env} {s : State} {m : MethodId} {args : Array Value} {below : List Frame} {meth : Method} {c : Code} {D : va_G} {cA : Nat → ClassId} {P : Nat → Prop} {G : Nat × Nat × Nat} {C S : Nat} {o : Nat} {Q : Int32 → ZH → Prop} {XE : String → Nat → ZH → Prop} (X : zc_Cx p l s m args meth c cX5_works 8 (some .int) "ChurchyardBook$Book" D cA P G) (hN : meth.name = "works") (hT : c.exceptionTable.toList = tableOf []) :
    ∀ (h : ZH) (bc bs : Nat) (v1 : Int32) (v2 : Int32) (v3 : Int32) (v4 : Int32) (v5 : Int32) (v6 : Int32), fc_X5_works_69 G o Q XE h bc bs v1 v2 v3 v4 v5 v6 → ∀ (H : Heap) (locs : List Loc) (ls : Array Slot) (cells slots : Nat), cells + bc ≤ C ∧ slots + bs ≤ S → lv_has ls 8 [(0, .ref o), (1, .int v1), (2, .int v2), (3, .int v3), (4, .int v4), (5, .int v5), (6, .int v6)] → zc_H D cA P h s H locs → W p l e (zc_Ro 12 C S) s m args below meth c H locs cells slots (vx_MQ below (zc_Q D cA P (fun v h' => ∃ z : Int32, v = some (.int z) ∧ Q z h')) (zc_X D cA P XE) args s C S P) (F0 m 69 ls []) := by
  have hx := X.1
  have hb := X.2.1
  have hown := X.2.2.2.1
  have hts := X.2.2.2.2.1
  intro h bc bs v1 v2 v3 v4 v5 v6 hF
  intro H locs ls cells slots hB hl hH
  unfold fc_X5_works_69 at hF
  refine lv_iload hx hb dX5_works_69 (lv_at hl 5 rfl) ?_
  refine lv_iload hx hb dX5_works_71 (lv_at hl 6 rfl) ?_
  refine lv_ior hx hb dX5_works_73 ?_
  refine lv_goto (tgt := 115) hx hb dX5_works_74 (by decide) ?_
  exact wc_X5_works_115 X hN hT h bc bs v1 v2 v3 v4 v5 v6 (v5 ||| v6) hF _ _ _ _ _ hB (lv_sub hl [0, 1, 2, 3, 4, 5, 6] rfl) hH
set_option maxHeartbeats 4000000 in
set_option maxRecDepth 100000 in
theorem wc_X5_works_41 {p : Program} {l : Launch} {e : Env} {s : State} {m : MethodId} {args : Array Value} {below : List Frame} {meth : Method} {c : Code} {D : va_G} {cA : Nat → ClassId} {P : Nat → Prop} {G : Nat × Nat × Nat} {C S : Nat} {o : Nat} {Q : Int32 → ZH → Prop} {XE : String → Nat → ZH → Prop} (X : zc_Cx p l s m args meth c cX5_works 8 (some .int) "ChurchyardBook$Book" D cA P G) (hN : meth.name = "works") (hT : c.exceptionTable.toList = tableOf []) :
    ∀ (h : ZH) (bc bs : Nat) (v1 : Int32) (v2 : Int32) (v3 : Int32) (v4 : Int32) (v5 : Int32) (v6 : Int32), fc_X5_works_41 G o Q XE h bc bs v1 v2 v3 v4 v5 v6 → ∀ (H : Heap) (locs : List Loc) (ls : Array Slot) (cells slots : Nat), cells + bc ≤ C ∧ slots + bs ≤ S → lv_has ls 8 [(0, .ref o), (1, .int v1), (2, .int v2), (3, .int v3), (4, .int v4), (5, .int v5), (6, .int v6)] → zc_H D cA P h s H locs → W p l e (zc_Ro 12 C S) s m args below meth c H locs cells slots (vx_MQ below (zc_Q D cA P (fun v h' => ∃ z : Int32, v = some (.int z) ∧ Q z h')) (zc_X D cA P XE) args s C S P) (F0 m 41 ls []) := by
  have hx := X.1
  have hb := X.2.1
  have hown := X.2.2.2.1
  have hts := X.2.2.2.2.1
  intro h bc bs v1 v2 v3 v4 v5 v6 hF
  intro H locs ls cells slots hB hl hH
  unfold fc_X5_works_41 at hF
  refine lv_iload hx hb dX5_works_41 (lv_at hl 6 rfl) ?_
  refine lv_goto (tgt := 115) hx hb dX5_works_43 (by decide) ?_
  exact wc_X5_works_115 X hN hT h bc bs v1 v2 v3 v4 v5 v6 v6 hF _ _ _ _ _ hB (lv_sub hl [0, 1, 2, 3, 4, 5, 6] rfl) hH
set_option maxHeartbeats 4000000 in
set_option maxRecDepth 100000 in
theorem wc_X5_works_11 {p : Program} {l : Launch} {e : Env} {s : State} {m : MethodId} {args : Array Value} {below : List Frame} {meth : Method} {c : Code} {D : va_G} {cA : Nat → ClassId} {P : Nat → Prop} {G : Nat × Nat × Nat} {C S : Nat} {o : Nat} {Q : Int32 → ZH → Prop} {XE : String → Nat → ZH → Prop} (X : zc_Cx p l s m args meth c cX5_works 8 (some .int) "ChurchyardBook$Book" D cA P G) (hN : meth.name = "works") (hT : c.exceptionTable.toList = tableOf []) :
    ∀ (h : ZH) (bc bs : Nat) (v1 : Int32) (v2 : Int32) (v3 : Int32) (v4 : Int32) (v5 : Int32) (v6 : Int32), fc_X5_works_11 G o Q XE h bc bs v1 v2 v3 v4 v5 v6 → ∀ (H : Heap) (locs : List Loc) (ls : Array Slot) (cells slots : Nat), cells + bc ≤ C ∧ slots + bs ≤ S → lv_has ls 8 [(0, .ref o), (1, .int v1), (2, .int v2), (3, .int v3), (4, .int v4), (5, .int v5), (6, .int v6)] → zc_H D cA P h s H locs → W p l e (zc_Ro 12 C S) s m args below meth c H locs cells slots (vx_MQ below (zc_Q D cA P (fun v h' => ∃ z : Int32, v = some (.int z) ∧ Q z h')) (zc_X D cA P XE) args s C S P) (F0 m 11 ls []) := by
  have hx := X.1
  have hb := X.2.1
  have hown := X.2.2.2.1
  have hts := X.2.2.2.2.1
  intro h bc bs v1 v2 v3 v4 v5 v6 hF
  intro H locs ls cells slots hB hl hH
  unfold fc_X5_works_11 at hF
  refine lv_iconst (v := 1) hx hb dX5_works_11 (by decide) ?_
  refine lv_goto (tgt := 115) hx hb dX5_works_12 (by decide) ?_
  exact wc_X5_works_115 X hN hT h bc bs v1 v2 v3 v4 v5 v6 1 hF _ _ _ _ _ hB (lv_sub hl [0, 1, 2, 3, 4, 5, 6] rfl) hH
set_option maxHeartbeats 4000000 in
set_option maxRecDepth 100000 in
theorem wc_X5_works {l : Launch} {D : va_G} {cA : Nat → ClassId} {P : Nat → Prop} {G : Nat × Nat × Nat} {o : Nat} {Q : Int32 → ZH → Prop} {XE : String → Nat → ZH → Prop} {h : ZH} {C S : Nat} {v1 : Int32} {v2 : Int32} {v3 : Int32} {v4 : Int32} {v5 : Int32} {v6 : Int32} (hl9 : l.stackTraces = false) (hF : fc_X5_works G o Q XE h C S v1 v2 v3 v4 v5 v6) :
    zc_M l yX5_works (ws_ yX5_works cX5_works 8 (some .int)) 12 D cA P G [.ref o, .int v1, .int v2, .int v3, .int v4, .int v5, .int v6] h C S (fun v h' => ∃ z : Int32, v = some (.int z) ∧ Q z h') XE := by
  refine zc_ofF hl9 rfl (by decide +kernel) (Nat.le_of_ble_eq_true rfl) ?_
  intro p e s m args below meth c H locs ls X hN hT hH hl
  have hx := X.1
  have hb := X.2.1
  have hown := X.2.2.2.1
  have hts := X.2.2.2.2.1
  have hl : lv_has ls 8 [(0, .ref o), (1, .int v1), (2, .int v2), (3, .int v3), (4, .int v4), (5, .int v5), (6, .int v6)] := hl
  have hB : 0 + C ≤ C ∧ 0 + S ≤ S := ⟨by omega, by omega⟩
  unfold fc_X5_works at hF
  refine lv_iload_n hx hb dX5_works_0 rfl (lv_at hl 1 rfl) ?_
  refine lv_iconst (v := 1) hx hb dX5_works_1 (by decide) ?_
  refine lv_icmp_lt (tgt := 11) hx hb dX5_works_2 (by decide) (fun cd => ?_) (fun cd => ?_)
  · have hF := hF.1 cd
    exact wc_X5_works_11 X hN hT h C S v1 v2 v3 v4 v5 v6 hF _ _ _ _ _ hB (lv_sub hl [0, 1, 2, 3, 4, 5, 6] rfl) hH
  · have hF := hF.2 cd
    refine lv_iload_n hx hb dX5_works_5 rfl (lv_at hl 1 rfl) ?_
    refine lv_bipush (v := 18) hx hb dX5_works_6 (by decide) ?_
    refine lv_icmp_le (tgt := 15) hx hb dX5_works_8 (by decide) (fun cd => ?_) (fun cd => ?_)
    · have hF := hF.1 cd
      refine lv_iload_n hx hb dX5_works_15 rfl (lv_at hl 1 rfl) ?_
      refine lv_iconst (v := 5) hx hb dX5_works_16 (by decide) ?_
      refine lv_icmp_ne (tgt := 24) hx hb dX5_works_17 (by decide) (fun cd => ?_) (fun cd => ?_)
      · have hF := hF.1 cd
        refine lv_iload_n hx hb dX5_works_24 rfl (lv_at hl 1 rfl) ?_
        refine lv_iconst (v := 4) hx hb dX5_works_25 (by decide) ?_
        refine lv_icmp_eq (tgt := 41) hx hb dX5_works_26 (by decide) (fun cd => ?_) (fun cd => ?_)
        · have hF := hF.1 cd
          exact wc_X5_works_41 X hN hT h C S v1 v2 v3 v4 v5 v6 hF _ _ _ _ _ hB (lv_sub hl [0, 1, 2, 3, 4, 5, 6] rfl) hH
        · have hF := hF.2 cd
          refine lv_iload_n hx hb dX5_works_29 rfl (lv_at hl 1 rfl) ?_
          refine lv_bipush (v := 15) hx hb dX5_works_30 (by decide) ?_
          refine lv_icmp_eq (tgt := 41) hx hb dX5_works_32 (by decide) (fun cd => ?_) (fun cd => ?_)
          · have hF := hF.1 cd
            exact wc_X5_works_41 X hN hT h C S v1 v2 v3 v4 v5 v6 hF _ _ _ _ _ hB (lv_sub hl [0, 1, 2, 3, 4, 5, 6] rfl) hH
          · have hF := hF.2 cd
            refine lv_iload_n hx hb dX5_works_35 rfl (lv_at hl 1 rfl) ?_
            refine lv_bipush (v := 16) hx hb dX5_works_36 (by decide) ?_
            refine lv_icmp_ne (tgt := 46) hx hb dX5_works_38 (by decide) (fun cd => ?_) (fun cd => ?_)
            · have hF := hF.1 cd
              refine lv_iload_n hx hb dX5_works_46 rfl (lv_at hl 1 rfl) ?_
              refine lv_iconst (v := 2) hx hb dX5_works_47 (by decide) ?_
              refine lv_icmp_eq (tgt := 69) hx hb dX5_works_48 (by decide) (fun cd => ?_) (fun cd => ?_)
              · have hF := hF.1 cd
                exact wc_X5_works_69 X hN hT h C S v1 v2 v3 v4 v5 v6 hF _ _ _ _ _ hB (lv_sub hl [0, 1, 2, 3, 4, 5, 6] rfl) hH
              · have hF := hF.2 cd
                refine lv_iload_n hx hb dX5_works_51 rfl (lv_at hl 1 rfl) ?_
                refine lv_bipush (v := 7) hx hb dX5_works_52 (by decide) ?_
                refine lv_icmp_eq (tgt := 69) hx hb dX5_works_54 (by decide) (fun cd => ?_) (fun cd => ?_)
                · have hF := hF.1 cd
                  exact wc_X5_works_69 X hN hT h C S v1 v2 v3 v4 v5 v6 hF _ _ _ _ _ hB (lv_sub hl [0, 1, 2, 3, 4, 5, 6] rfl) hH
                · have hF := hF.2 cd
                  refine lv_iload_n hx hb dX5_works_57 rfl (lv_at hl 1 rfl) ?_
                  refine lv_bipush (v := 9) hx hb dX5_works_58 (by decide) ?_
                  refine lv_icmp_eq (tgt := 69) hx hb dX5_works_60 (by decide) (fun cd => ?_) (fun cd => ?_)
                  · have hF := hF.1 cd
                    exact wc_X5_works_69 X hN hT h C S v1 v2 v3 v4 v5 v6 hF _ _ _ _ _ hB (lv_sub hl [0, 1, 2, 3, 4, 5, 6] rfl) hH
                  · have hF := hF.2 cd
                    refine lv_iload_n hx hb dX5_works_63 rfl (lv_at hl 1 rfl) ?_
                    refine lv_bipush (v := 11) hx hb dX5_works_64 (by decide) ?_
                    refine lv_icmp_ne (tgt := 77) hx hb dX5_works_66 (by decide) (fun cd => ?_) (fun cd => ?_)
                    · have hF := hF.1 cd
                      refine lv_iload_n hx hb dX5_works_77 rfl (lv_at hl 1 rfl) ?_
                      refine lv_iconst (v := 3) hx hb dX5_works_78 (by decide) ?_
                      refine lv_icmp_eq (tgt := 94) hx hb dX5_works_79 (by decide) (fun cd => ?_) (fun cd => ?_)
                      · have hF := hF.1 cd
                        exact wc_X5_works_94 X hN hT h C S v1 v2 v3 v4 v5 v6 hF _ _ _ _ _ hB (lv_sub hl [0, 1, 2, 3, 4, 5, 6] rfl) hH
                      · have hF := hF.2 cd
                        refine lv_iload_n hx hb dX5_works_82 rfl (lv_at hl 1 rfl) ?_
                        refine lv_bipush (v := 8) hx hb dX5_works_83 (by decide) ?_
                        refine lv_icmp_eq (tgt := 94) hx hb dX5_works_85 (by decide) (fun cd => ?_) (fun cd => ?_)
                        · have hF := hF.1 cd
                          exact wc_X5_works_94 X hN hT h C S v1 v2 v3 v4 v5 v6 hF _ _ _ _ _ hB (lv_sub hl [0, 1, 2, 3, 4, 5, 6] rfl) hH
                        · have hF := hF.2 cd
                          refine lv_iload_n hx hb dX5_works_88 rfl (lv_at hl 1 rfl) ?_
                          refine lv_bipush (v := 10) hx hb dX5_works_89 (by decide) ?_
                          refine lv_icmp_ne (tgt := 105) hx hb dX5_works_91 (by decide) (fun cd => ?_) (fun cd => ?_)
                          · have hF := hF.1 cd
                            refine lv_iload_n hx hb dX5_works_105 rfl (lv_at hl 3 rfl) ?_
                            refine lv_iload hx hb dX5_works_106 (lv_at hl 4 rfl) ?_
                            refine lv_ior hx hb dX5_works_108 ?_
                            refine lv_iload hx hb dX5_works_109 (lv_at hl 5 rfl) ?_
                            refine lv_ior hx hb dX5_works_111 ?_
                            refine lv_iload hx hb dX5_works_112 (lv_at hl 6 rfl) ?_
                            refine lv_ior hx hb dX5_works_114 ?_
                            exact wc_X5_works_115 X hN hT h C S v1 v2 v3 v4 v5 v6 (((v3 ||| v4) ||| v5) ||| v6) hF _ _ _ _ _ hB (lv_sub hl [0, 1, 2, 3, 4, 5, 6] rfl) hH
                          · have hF := hF.2 cd
                            exact wc_X5_works_94 X hN hT h C S v1 v2 v3 v4 v5 v6 hF _ _ _ _ _ hB (lv_sub hl [0, 1, 2, 3, 4, 5, 6] rfl) hH
                    · have hF := hF.2 cd
                      exact wc_X5_works_69 X hN hT h C S v1 v2 v3 v4 v5 v6 hF _ _ _ _ _ hB (lv_sub hl [0, 1, 2, 3, 4, 5, 6] rfl) hH
            · have hF := hF.2 cd
              exact wc_X5_works_41 X hN hT h C S v1 v2 v3 v4 v5 v6 hF _ _ _ _ _ hB (lv_sub hl [0, 1, 2, 3, 4, 5, 6] rfl) hH
      · have hF := hF.2 cd
        refine lv_iconst (v := 0) hx hb dX5_works_20 (by decide) ?_
        refine lv_goto (tgt := 115) hx hb dX5_works_21 (by decide) ?_
        exact wc_X5_works_115 X hN hT h C S v1 v2 v3 v4 v5 v6 0 hF _ _ _ _ _ hB (lv_sub hl [0, 1, 2, 3, 4, 5, 6] rfl) hH
    · have hF := hF.2 cd
      exact wc_X5_works_11 X hN hT h C S v1 v2 v3 v4 v5 v6 hF _ _ _ _ _ hB (lv_sub hl [0, 1, 2, 3, 4, 5, 6] rfl) hH
set_option maxHeartbeats 4000000 in
set_option maxRecDepth 100000 in
theorem wc_X1_write {l : Launch} {D : va_G} {cA : Nat → ClassId} {P : Nat → Prop} {G : Nat × Nat × Nat} {Q : ZH → Prop} {h : ZH} {C S : Nat} {q0 : Option Nat} {v1 : Int32} {v2 : Int32} {v3 : Int32} {v4 : Int32} {v5 : Int32} {v6 : Int32} {v7 : Int32} (hl9 : l.stackTraces = false) (hF : fc_X1_write G Q h C S q0 v1 v2 v3 v4 v5 v6 v7) :
    zc_M l yX1_write (ws_ yX1_write cX1_write 9 none) 1 D cA P G [va_rf q0, .int v1, .int v2, .int v3, .int v4, .int v5, .int v6, .int v7] h C S (fun v h' => v = none ∧ Q h') zc_no := by
  refine zc_ofF hl9 rfl (by decide +kernel) (zc_slle (by simp [zc_k1, zc_kI, zc_kR]) (Nat.le_of_ble_eq_true rfl)) ?_
  intro p e s m args below meth c H locs ls X hN hT hH hl
  have hx := X.1
  have hb := X.2.1
  have hown := X.2.2.2.1
  have hts := X.2.2.2.2.1
  have hl : lv_has ls 9 [(0, va_rf q0), (1, .int v1), (2, .int v2), (3, .int v3), (4, .int v4), (5, .int v5), (6, .int v6), (7, .int v7)] := by
    have h9 := hl
    rw [zc_ags _ (by simp [zc_k1, zc_kI, zc_kR]) 0] at h9
    exact h9
  have hB : 0 + C ≤ C ∧ 0 + S ≤ S := ⟨by omega, by omega⟩
  unfold fc_X1_write at hF
  refine lv_bipush (v := 6) hx hb dX1_write_0 (by decide) ?_
  obtain ⟨hI, hF⟩ := hF
  obtain ⟨hJ, hF⟩ := hF
  obtain ⟨hc1, hF⟩ := hF
  obtain ⟨hs1, hF⟩ := hF
  refine zc_newa X hH hB (atype := .int) 0 (by simp) q239 hI hJ hc1 hs1 dX1_write_2 (fun a1 h2 H hza1 eh2 hH hB => ?_)
  have hF := hF a1 h2 hza1 eh2
  refine lv_dup hx hb dX1_write_4 rfl ?_
  refine lv_iconst (v := 0) hx hb dX1_write_5 (by decide) ?_
  refine lv_iload_n hx hb dX1_write_6 rfl (lv_at hl 2 rfl) ?_
  obtain ⟨hc, hF⟩ := hF
  obtain ⟨hI, hF⟩ := hF
  refine zc_iast X hH hc hI dX1_write_7 (fun h3 H locs eh3 hH => ?_)
  have hF := hF h3 eh3
  refine lv_dup hx hb dX1_write_8 rfl ?_
  refine lv_iconst (v := 1) hx hb dX1_write_9 (by decide) ?_
  refine lv_iload_n hx hb dX1_write_10 rfl (lv_at hl 3 rfl) ?_
  obtain ⟨hc, hF⟩ := hF
  obtain ⟨hI, hF⟩ := hF
  refine zc_iast X hH hc hI dX1_write_11 (fun h4 H locs eh4 hH => ?_)
  have hF := hF h4 eh4
  refine lv_dup hx hb dX1_write_12 rfl ?_
  refine lv_iconst (v := 2) hx hb dX1_write_13 (by decide) ?_
  refine lv_iload hx hb dX1_write_14 (lv_at hl 4 rfl) ?_
  obtain ⟨hc, hF⟩ := hF
  obtain ⟨hI, hF⟩ := hF
  refine zc_iast X hH hc hI dX1_write_16 (fun h5 H locs eh5 hH => ?_)
  have hF := hF h5 eh5
  refine lv_dup hx hb dX1_write_17 rfl ?_
  refine lv_iconst (v := 3) hx hb dX1_write_18 (by decide) ?_
  refine lv_iload hx hb dX1_write_19 (lv_at hl 5 rfl) ?_
  obtain ⟨hc, hF⟩ := hF
  obtain ⟨hI, hF⟩ := hF
  refine zc_iast X hH hc hI dX1_write_21 (fun h6 H locs eh6 hH => ?_)
  have hF := hF h6 eh6
  refine lv_dup hx hb dX1_write_22 rfl ?_
  refine lv_iconst (v := 4) hx hb dX1_write_23 (by decide) ?_
  refine lv_iload hx hb dX1_write_24 (lv_at hl 6 rfl) ?_
  obtain ⟨hc, hF⟩ := hF
  obtain ⟨hI, hF⟩ := hF
  refine zc_iast X hH hc hI dX1_write_26 (fun h7 H locs eh7 hH => ?_)
  have hF := hF h7 eh7
  refine lv_dup hx hb dX1_write_27 rfl ?_
  refine lv_iconst (v := 5) hx hb dX1_write_28 (by decide) ?_
  refine lv_iload hx hb dX1_write_29 (lv_at hl 7 rfl) ?_
  obtain ⟨hc, hF⟩ := hF
  obtain ⟨hI, hF⟩ := hF
  refine zc_iast X hH hc hI dX1_write_31 (fun h8 H locs eh8 hH => ?_)
  have hF := hF h8 eh8
  refine zq_astore (r := (some a1)) (lv' := [(8, .ref a1), (0, va_rf q0), (1, .int v1), (2, .int v2), (3, .int v3), (4, .int v4), (5, .int v5), (6, .int v6), (7, .int v7)]) hx hb rfl dX1_write_32 hl (by decide) rfl (fun ls hl => ?_)
  refine lv_aload hx hb dX1_write_34 (lv_at hl 0 rfl) ?_
  refine lv_iconst (v := 0) hx hb dX1_write_36 (by decide) ?_
  refine zq_aload_n hx hb dX1_write_37 rfl (lv_at hl 1 rfl) ?_
  refine lv_bipush (v := 6) hx hb dX1_write_38 (by decide) ?_
  refine lv_iload_n hx hb dX1_write_40 rfl (lv_at hl 2 rfl) ?_
  refine lv_imul hx hb dX1_write_41 ?_
  refine lv_bipush (v := 6) hx hb dX1_write_42 (by decide) ?_
  obtain ⟨b9, eb9, hF⟩ := hF
  refine zq_st (st2 := [.int 6, .int (6 * v1), .ref b9, .int 0, .ref a1]) (by rw [eb9]; first | done | rfl) ?_
  obtain ⟨ha1, hF⟩ := hF
  obtain ⟨ha2, hF⟩ := hF
  obtain ⟨ha3, hF⟩ := hF
  obtain ⟨ha4, hF⟩ := hF
  obtain ⟨h10, eh10⟩ : ∃ z : ZH, z = zcpj h8 0 a1 (0 : Int32).toNatClampNeg b9 (6 * v1).toNatClampNeg (6 : Int32).toNatClampNeg := ⟨_, rfl⟩
  have hF := hF h10 eh10
  refine zc_copy (R := zc_Ro 1 C S) (rest := []) X hH hl.1 q247 q249 q248 q103 0 (by decide) ha1 ha2 ha3 ha4.1 ha4.2.1 ha4.2.2.1 ha4.2.2.2.1 ha4.2.2.2.2 (fun h9 => by cases h9) (h' := h10) eh10 (Nat.le_of_ble_eq_true rfl) (Nat.le_of_ble_eq_true rfl) dX1_write_44 (fun H locs hH => ?_)
  exact zc_vret X hH hB rfl ⟨rfl, hF⟩ dX1_write_47
