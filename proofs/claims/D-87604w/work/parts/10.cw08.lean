/-! THE COMPONENT SIDE: the walks, printed by gen_comp.py -/
set_option maxRecDepth 100000
set_option maxHeartbeats 4000000 in
set_option maxRecDepth 100000 in
theorem wc_X1_does_64 {p : Program} {l : Launch} {e : Env} {s : State} {m : MethodId} {args : Array Value} {below : List Frame} {meth : Method} {c : Code} {D : va_G} {cA : Nat → ClassId} {P : Nat → Prop} {G : Nat × Nat × Nat} {C S : Nat} {o : Nat} {Q : Int32 → ZH → Prop} (X : zc_Cx p l s m args meth c cX1_does 8 (some .int) "ChurchyardBook" D cA P G) (hN : meth.name = "does") (hT : c.exceptionTable.toList = tableOf [(13, 63, 64, 63)]) :
    ∀ (h : ZH) (bc bs : Nat) (u0 : Option Nat), fc_X1_does_64 G o Q h bc bs u0 → ∀ (H : Heap) (locs : List Loc) (ls : Array Slot) (cells slots : Nat), cells + bc ≤ C ∧ slots + bs ≤ S → lv_has ls 8 [(0, .ref o)] → zc_H D cA P h s H locs → W p l e (zc_Ro 13 C S) s m args below meth c H locs cells slots (vx_MQ below (zc_Q D cA P (fun v h' => ∃ z : Int32, v = some (.int z) ∧ Q z h')) (zc_X D cA P zc_no) args s C S P) (F0 m 64 ls [va_rf u0]) := by
  have hx := X.1
  have hb := X.2.1
  have hown := X.2.2.2.1
  have hts := X.2.2.2.2.1
  intro h bc bs u0 hF
  intro H locs ls cells slots hB hl hH
  unfold fc_X1_does_64 at hF
  refine zq_astore (r := u0) (lv' := [(7, va_rf u0), (0, .ref o)]) hx hb rfl dX1_does_64 hl (by decide) rfl (fun ls hl => ?_)
  refine zq_aload hx hb dX1_does_66 (lv_at hl 0 rfl) ?_
  obtain ⟨b1, eb1, hF⟩ := hF
  refine zq_st (st2 := [.ref b1]) (by rw [eb1]; first | done | rfl) ?_
  obtain ⟨hc, hF⟩ := hF
  refine zc_getf X hH hc 0 400 ("ChurchyardBook$Refused", "answer", "I", true) (by decide +kernel) (v := .int (zi h 400 b1)) rfl q329 (Or.inl rfl) dX1_does_68 ?_
  exact zc_iret X hH hB rfl rfl ⟨_, rfl, hF⟩ dX1_does_71
set_option maxHeartbeats 4000000 in
set_option maxRecDepth 100000 in
theorem wc_X1_does {l : Launch} {D : va_G} {cA : Nat → ClassId} {P : Nat → Prop} {G : Nat × Nat × Nat} {o : Nat} {Q : Int32 → ZH → Prop} {h : ZH} {C S : Nat} {v1 : Int32} {v2 : Int32} {v3 : Int32} {v4 : Int32} {v5 : Int32} {v6 : Int32} (hl9 : l.stackTraces = false) (hF : fc_X1_does G o Q h C S v1 v2 v3 v4 v5 v6) :
    zc_M l yX1_does (wsW_ yX1_does cX1_does 8 (some .int) [(13, 63, 64, 63)]) 13 D cA P G [.ref o, .int v1, .int v2, .int v3, .int v4, .int v5, .int v6] h C S (fun v h' => ∃ z : Int32, v = some (.int z) ∧ Q z h') zc_no := by
  refine zc_ofH [(13, 63, 64, 63)] hl9 rfl (by decide +kernel) (Nat.le_of_ble_eq_true rfl) ?_
  intro p e s m args below meth c H locs ls X hN hT hH hl
  have hx := X.1
  have hb := X.2.1
  have hown := X.2.2.2.1
  have hts := X.2.2.2.2.1
  have hl : lv_has ls 8 [(0, .ref o), (1, .int v1), (2, .int v2), (3, .int v3), (4, .int v4), (5, .int v5), (6, .int v6)] := hl
  have hB : 0 + C ≤ C ∧ 0 + S ≤ S := ⟨by omega, by omega⟩
  unfold fc_X1_does at hF
  refine lv_aload_n hx hb dX1_does_0 rfl (lv_at hl 0 rfl) ?_
  obtain ⟨hc, hF⟩ := hF
  refine zc_getf X hH hc 4 104 ("ChurchyardBook", "many", "I", false) (by decide +kernel) (v := .int (zi h 104 o)) rfl q218 (Or.inl rfl) dX1_does_1 ?_
  refine lv_sipush (v := 400) hx hb dX1_does_4 (by decide) ?_
  refine lv_icmp_ne (tgt := 13) hx hb dX1_does_7 (by decide) (fun cd => ?_) (fun cd => ?_)
  · have hF := hF.1 cd
    refine lv_aload_n hx hb dX1_does_13 rfl (lv_at hl 0 rfl) ?_
    obtain ⟨hc, hF⟩ := hF
    refine zc_getf X hH hc 2 102 ("ChurchyardBook", "book", "LChurchyardBook$Book;", false) (by decide +kernel) (v := va_rf (zr h 102 o)) rfl q216 (Or.inl rfl) dX1_does_14 ?_
    refine lv_iload_n hx hb dX1_does_17 rfl (lv_at hl 1 rfl) ?_
    refine lv_iload_n hx hb dX1_does_18 rfl (lv_at hl 2 rfl) ?_
    refine lv_iload_n hx hb dX1_does_19 rfl (lv_at hl 3 rfl) ?_
    refine lv_iload hx hb dX1_does_20 (lv_at hl 4 rfl) ?_
    refine lv_iload hx hb dX1_does_22 (lv_at hl 5 rfl) ?_
    refine lv_iload hx hb dX1_does_24 (lv_at hl 6 rfl) ?_
    obtain ⟨b1, eb1, hF⟩ := hF
    refine zq_st (st2 := [.int v6, .int v5, .int v4, .int v3, .int v2, .int v1, .ref b1]) (by rw [eb1]; first | done | rfl) ?_
    obtain ⟨hc, hF⟩ := hF
    obtain ⟨c2, s3, hc1, hs1, hF⟩ := hF
    refine zc_call (c1 := c2) (s1 := s3) (rest := []) hH hB hc1 hs1 (fun hf => zc_rV X hH hc (by decide) rfl (As := [.int v1, .int v2, .int v3, .int v4, .int v5, .int v6]) (wc_X5_works X.2.2.2.2.2.2.2.1 hF) (lw_V q259 q260 q261 q91 q262) ⟨rfl, by decide, by decide, rfl⟩ ⟨Nat.le_of_ble_eq_true rfl, Nat.le_of_ble_eq_true rfl, Nat.le_of_ble_eq_true rfl⟩ rfl hl.1 (st0 := [.int v6, .int v5, .int v4, .int v3, .int v2, .int v1, .ref b1]) rfl (Nat.le_of_ble_eq_true rfl) dX1_does_26 hf) (fun E9 ce9 q6 h7 H locs hx9 hH hB hce hcv hcl => ?_) (fun v9 h5 H locs hv9 hH hB => ?_)
    · obtain ⟨rfl, hF⟩ := hx9
      refine zc_catch X hT (by decide) (by decide) (nm := "ChurchyardBook$Refused") q258 (by decide +kernel) hce hcv hcl ?_
      exact wc_X1_does_64 X hN hT h7 (C - c2) (S - s3) (some q6) hF _ _ _ _ _ hB (lv_sub hl [0] rfl) hH
    obtain ⟨z4, rfl, hF⟩ := hv9
    refine lv_istore (lv' := [(7, .int z4), (0, .ref o), (1, .int v1), (2, .int v2), (3, .int v3), (4, .int v4), (5, .int v5), (6, .int v6)]) hx hb dX1_does_29 hl (by decide) rfl (fun ls hl => ?_)
    refine lv_aload_n hx hb dX1_does_31 rfl (lv_at hl 1 rfl) ?_
    obtain ⟨hc, hF⟩ := hF
    refine zc_getf X hH hc 3 103 ("ChurchyardBook", "acts", "[I", true) (by decide +kernel) (v := va_rf (zr h5 103 o)) rfl q217 (Or.inl rfl) dX1_does_32 ?_
    refine lv_aload_n hx hb dX1_does_35 rfl (lv_at hl 1 rfl) ?_
    obtain ⟨hc, hF⟩ := hF
    refine zc_getf X hH hc 4 104 ("ChurchyardBook", "many", "I", false) (by decide +kernel) (v := .int (zi h5 104 o)) rfl q218 (Or.inl rfl) dX1_does_36 ?_
    refine lv_iload_n hx hb dX1_does_39 rfl (lv_at hl 2 rfl) ?_
    refine lv_iload_n hx hb dX1_does_40 rfl (lv_at hl 3 rfl) ?_
    refine lv_iload_n hx hb dX1_does_41 rfl (lv_at hl 4 rfl) ?_
    refine lv_iload hx hb dX1_does_42 (lv_at hl 5 rfl) ?_
    refine lv_iload hx hb dX1_does_44 (lv_at hl 6 rfl) ?_
    refine lv_iload hx hb dX1_does_46 (lv_at hl 7 rfl) ?_
    obtain ⟨c8, s9, hc1, hs1, hF⟩ := hF
    refine zc_call (c1 := c8) (s1 := s9) (rest := []) hH hB hc1 hs1 (fun hf => zc_rS X hH (As := [va_rf (zr h5 103 o), .int (zi h5 104 o), .int v1, .int v2, .int v3, .int v4, .int v5, .int v6]) (wc_X1_write X.2.2.2.2.2.2.2.1 hF) (lw_S q244 q245 q87 q246) ⟨by decide, by decide, rfl⟩ ⟨Nat.le_of_ble_eq_true rfl, Nat.le_of_ble_eq_true rfl, Nat.le_of_ble_eq_true rfl⟩ rfl hl.1 (st0 := [.int v6, .int v5, .int v4, .int v3, .int v2, .int v1, .int (zi h5 104 o), va_rf (zr h5 103 o)]) rfl (Nat.le_of_ble_eq_true rfl) dX1_does_48 hf) (fun E9 ce9 q9 h9 H locs hx9 => False.elim hx9) (fun v9 h10 H locs hv9 hH hB => ?_)
    obtain ⟨rfl, hF⟩ := hv9
    refine lv_aload_n hx hb dX1_does_51 rfl (lv_at hl 1 rfl) ?_
    refine lv_dup hx hb dX1_does_52 rfl ?_
    obtain ⟨hc, hF⟩ := hF
    refine zc_getf X hH hc 4 104 ("ChurchyardBook", "many", "I", false) (by decide +kernel) (v := .int (zi h10 104 o)) rfl q218 (Or.inl rfl) dX1_does_53 ?_
    refine lv_iconst (v := 1) hx hb dX1_does_56 (by decide) ?_
    refine lv_iadd hx hb dX1_does_57 ?_
    obtain ⟨hc, hF⟩ := hF
    refine zc_puti X hH hc 4 104 ("ChurchyardBook", "many", "I", false) (by decide +kernel) rfl q218 (Or.inl rfl) (ty := .int) (by decide +kernel) rfl rfl (Or.inl rfl) dX1_does_58 (fun h11 H locs eh11 hH => ?_)
    have hF := hF h11 eh11
    refine lv_iload hx hb dX1_does_61 (lv_at hl 0 rfl) ?_
    exact zc_iret X hH hB rfl rfl ⟨_, rfl, hF⟩ dX1_does_63
  · have hF := hF.2 cd
    refine lv_bipush (v := (-9)) hx hb dX1_does_10 (by decide) ?_
    exact zc_iret X hH hB rfl rfl ⟨_, rfl, hF⟩ dX1_does_12
set_option maxHeartbeats 4000000 in
set_option maxRecDepth 100000 in
theorem wc_X1_firstRefused_70 {p : Program} {l : Launch} {e : Env} {s : State} {m : MethodId} {args : Array Value} {below : List Frame} {meth : Method} {c : Code} {D : va_G} {cA : Nat → ClassId} {P : Nat → Prop} {G : Nat × Nat × Nat} {C S : Nat} {o : Nat} {Q : Int32 → ZH → Prop} {K3 : ZH → Nat → Nat → Option Nat → Option Nat → Int32 → Int32 → Prop} (X : zc_Cx p l s m args meth c cX1_firstRefused 6 (some .int) "ChurchyardBook" D cA P G) (hN : meth.name = "firstRefused") (hT : c.exceptionTable.toList = tableOf [(9, 67, 70, 63)]) (hK3 : ∀ (h : ZH) (bc bs : Nat) (q1 : Option Nat) (q2 : Option Nat) (v3 : Int32) (v4 : Int32), K3 h bc bs q1 q2 v3 v4 → ∀ (H : Heap) (locs : List Loc) (ls : Array Slot) (cells slots : Nat), cells + bc ≤ C ∧ slots + bs ≤ S → lv_has ls 6 [(0, .ref o), (1, va_rf q1), (2, va_rf q2), (3, .int v3), (4, .int v4)] → zc_H D cA P h s H locs → W p l e (zc_Ro 13 C S) s m args below meth c H locs cells slots (vx_MQ below (zc_Q D cA P (fun v h' => ∃ z : Int32, v = some (.int z) ∧ Q z h')) (zc_X D cA P zc_no) args s C S P) (F0 m 3 ls [])) :
    ∀ (h : ZH) (bc bs : Nat) (v4 : Int32) (u0 : Option Nat), fc_X1_firstRefused_70 G o Q K3 h bc bs v4 u0 → ∀ (H : Heap) (locs : List Loc) (ls : Array Slot) (cells slots : Nat), cells + bc ≤ C ∧ slots + bs ≤ S → lv_has ls 6 [(0, .ref o), (4, .int v4)] → zc_H D cA P h s H locs → W p l e (zc_Ro 13 C S) s m args below meth c H locs cells slots (vx_MQ below (zc_Q D cA P (fun v h' => ∃ z : Int32, v = some (.int z) ∧ Q z h')) (zc_X D cA P zc_no) args s C S P) (F0 m 70 ls [va_rf u0]) := by
  have hx := X.1
  have hb := X.2.1
  have hown := X.2.2.2.1
  have hts := X.2.2.2.2.1
  intro h bc bs v4 u0 hF
  intro H locs ls cells slots hB hl hH
  unfold fc_X1_firstRefused_70 at hF
  refine zq_astore (r := u0) (lv' := [(5, va_rf u0), (0, .ref o), (4, .int v4)]) hx hb rfl dX1_firstRefused_70 hl (by decide) rfl (fun ls hl => ?_)
  refine lv_iload hx hb dX1_firstRefused_72 (lv_at hl 2 rfl) ?_
  exact zc_iret X hH hB rfl rfl ⟨_, rfl, hF⟩ dX1_firstRefused_74
set_option maxHeartbeats 4000000 in
set_option maxRecDepth 100000 in
theorem wc_X1_firstRefused_3 {p : Program} {l : Launch} {e : Env} {s : State} {m : MethodId} {args : Array Value} {below : List Frame} {meth : Method} {c : Code} {D : va_G} {cA : Nat → ClassId} {P : Nat → Prop} {G : Nat × Nat × Nat} {C S : Nat} {o : Nat} {Q : Int32 → ZH → Prop} (X : zc_Cx p l s m args meth c cX1_firstRefused 6 (some .int) "ChurchyardBook" D cA P G) (hN : meth.name = "firstRefused") (hT : c.exceptionTable.toList = tableOf [(9, 67, 70, 63)]) :
    ∀ (n : Nat) (h : ZH) (bc bs : Nat) (q1 : Option Nat) (q2 : Option Nat) (v3 : Int32) (v4 : Int32), fc_X1_firstRefused_3 G o Q n h bc bs q1 q2 v3 v4 → ∀ (H : Heap) (locs : List Loc) (ls : Array Slot) (cells slots : Nat), cells + bc ≤ C ∧ slots + bs ≤ S → lv_has ls 6 [(0, .ref o), (1, va_rf q1), (2, va_rf q2), (3, .int v3), (4, .int v4)] → zc_H D cA P h s H locs → W p l e (zc_Ro 13 C S) s m args below meth c H locs cells slots (vx_MQ below (zc_Q D cA P (fun v h' => ∃ z : Int32, v = some (.int z) ∧ Q z h')) (zc_X D cA P zc_no) args s C S P) (F0 m 3 ls []) := by
  have hx := X.1
  have hb := X.2.1
  have hown := X.2.2.2.1
  have hts := X.2.2.2.2.1
  intro n
  induction n with
  | zero =>
    intro h bc bs q1 q2 v3 v4 hF
    exact False.elim hF
  | succ n ih =>
    intro h bc bs q1 q2 v3 v4 hF
    intro H locs ls cells slots hB hl hH
    unfold fc_X1_firstRefused_3 at hF
    refine lv_iload hx hb dX1_firstRefused_3 (lv_at hl 4 rfl) ?_
    refine lv_iload_n hx hb dX1_firstRefused_5 rfl (lv_at hl 3 rfl) ?_
    refine lv_icmp_ge (tgt := 81) hx hb dX1_firstRefused_6 (by decide) (fun cd => ?_) (fun cd => ?_)
    · have hF := hF.1 cd
      refine lv_iconst (v := (-1)) hx hb dX1_firstRefused_81 (by decide) ?_
      exact zc_iret X hH hB rfl rfl ⟨_, rfl, hF⟩ dX1_firstRefused_82
    · have hF := hF.2 cd
      refine zq_aload_n hx hb dX1_firstRefused_9 rfl (lv_at hl 1 rfl) ?_
      refine zq_aload_n hx hb dX1_firstRefused_10 rfl (lv_at hl 2 rfl) ?_
      refine lv_bipush (v := 6) hx hb dX1_firstRefused_11 (by decide) ?_
      refine lv_iload hx hb dX1_firstRefused_13 (lv_at hl 4 rfl) ?_
      refine lv_imul hx hb dX1_firstRefused_15 ?_
      obtain ⟨b1, eb1, hF⟩ := hF
      refine zq_st (st2 := [.int (6 * v4), .ref b1, va_rf q1]) (by rw [eb1]; first | done | rfl) ?_
      obtain ⟨hc, hF⟩ := hF
      obtain ⟨hI, hF⟩ := hF
      refine zc_iald X hH hc hI dX1_firstRefused_16 ?_
      refine zq_aload_n hx hb dX1_firstRefused_17 rfl (lv_at hl 2 rfl) ?_
      refine lv_bipush (v := 6) hx hb dX1_firstRefused_18 (by decide) ?_
      refine lv_iload hx hb dX1_firstRefused_20 (lv_at hl 4 rfl) ?_
      refine lv_imul hx hb dX1_firstRefused_22 ?_
      refine lv_iconst (v := 1) hx hb dX1_firstRefused_23 (by decide) ?_
      refine lv_iadd hx hb dX1_firstRefused_24 ?_
      refine zq_st (st2 := [.int ((6 * v4) + 1), .ref b1, .int (zj h 0 b1 (6 * v4).toNatClampNeg), va_rf q1]) (by rw [eb1]; first | done | rfl) ?_
      obtain ⟨hc, hF⟩ := hF
      obtain ⟨hI, hF⟩ := hF
      refine zc_iald X hH hc hI dX1_firstRefused_25 ?_
      refine zq_aload_n hx hb dX1_firstRefused_26 rfl (lv_at hl 2 rfl) ?_
      refine lv_bipush (v := 6) hx hb dX1_firstRefused_27 (by decide) ?_
      refine lv_iload hx hb dX1_firstRefused_29 (lv_at hl 4 rfl) ?_
      refine lv_imul hx hb dX1_firstRefused_31 ?_
      refine lv_iconst (v := 2) hx hb dX1_firstRefused_32 (by decide) ?_
      refine lv_iadd hx hb dX1_firstRefused_33 ?_
      refine zq_st (st2 := [.int ((6 * v4) + 2), .ref b1, .int (zj h 0 b1 ((6 * v4) + 1).toNatClampNeg), .int (zj h 0 b1 (6 * v4).toNatClampNeg), va_rf q1]) (by rw [eb1]; first | done | rfl) ?_
      obtain ⟨hc, hF⟩ := hF
      obtain ⟨hI, hF⟩ := hF
      refine zc_iald X hH hc hI dX1_firstRefused_34 ?_
      refine zq_aload_n hx hb dX1_firstRefused_35 rfl (lv_at hl 2 rfl) ?_
      refine lv_bipush (v := 6) hx hb dX1_firstRefused_36 (by decide) ?_
      refine lv_iload hx hb dX1_firstRefused_38 (lv_at hl 4 rfl) ?_
      refine lv_imul hx hb dX1_firstRefused_40 ?_
      refine lv_iconst (v := 3) hx hb dX1_firstRefused_41 (by decide) ?_
      refine lv_iadd hx hb dX1_firstRefused_42 ?_
      refine zq_st (st2 := [.int ((6 * v4) + 3), .ref b1, .int (zj h 0 b1 ((6 * v4) + 2).toNatClampNeg), .int (zj h 0 b1 ((6 * v4) + 1).toNatClampNeg), .int (zj h 0 b1 (6 * v4).toNatClampNeg), va_rf q1]) (by rw [eb1]; first | done | rfl) ?_
      obtain ⟨hc, hF⟩ := hF
      obtain ⟨hI, hF⟩ := hF
      refine zc_iald X hH hc hI dX1_firstRefused_43 ?_
      refine zq_aload_n hx hb dX1_firstRefused_44 rfl (lv_at hl 2 rfl) ?_
      refine lv_bipush (v := 6) hx hb dX1_firstRefused_45 (by decide) ?_
      refine lv_iload hx hb dX1_firstRefused_47 (lv_at hl 4 rfl) ?_
      refine lv_imul hx hb dX1_firstRefused_49 ?_
      refine lv_iconst (v := 4) hx hb dX1_firstRefused_50 (by decide) ?_
      refine lv_iadd hx hb dX1_firstRefused_51 ?_
      refine zq_st (st2 := [.int ((6 * v4) + 4), .ref b1, .int (zj h 0 b1 ((6 * v4) + 3).toNatClampNeg), .int (zj h 0 b1 ((6 * v4) + 2).toNatClampNeg), .int (zj h 0 b1 ((6 * v4) + 1).toNatClampNeg), .int (zj h 0 b1 (6 * v4).toNatClampNeg), va_rf q1]) (by rw [eb1]; first | done | rfl) ?_
      obtain ⟨hc, hF⟩ := hF
      obtain ⟨hI, hF⟩ := hF
      refine zc_iald X hH hc hI dX1_firstRefused_52 ?_
      refine zq_aload_n hx hb dX1_firstRefused_53 rfl (lv_at hl 2 rfl) ?_
      refine lv_bipush (v := 6) hx hb dX1_firstRefused_54 (by decide) ?_
      refine lv_iload hx hb dX1_firstRefused_56 (lv_at hl 4 rfl) ?_
      refine lv_imul hx hb dX1_firstRefused_58 ?_
      refine lv_iconst (v := 5) hx hb dX1_firstRefused_59 (by decide) ?_
      refine lv_iadd hx hb dX1_firstRefused_60 ?_
      refine zq_st (st2 := [.int ((6 * v4) + 5), .ref b1, .int (zj h 0 b1 ((6 * v4) + 4).toNatClampNeg), .int (zj h 0 b1 ((6 * v4) + 3).toNatClampNeg), .int (zj h 0 b1 ((6 * v4) + 2).toNatClampNeg), .int (zj h 0 b1 ((6 * v4) + 1).toNatClampNeg), .int (zj h 0 b1 (6 * v4).toNatClampNeg), va_rf q1]) (by rw [eb1]; first | done | rfl) ?_
      obtain ⟨hc, hF⟩ := hF
      obtain ⟨hI, hF⟩ := hF
      refine zc_iald X hH hc hI dX1_firstRefused_61 ?_
      obtain ⟨b2, eb2, hF⟩ := hF
      refine zq_st (st2 := [.int (zj h 0 b1 ((6 * v4) + 5).toNatClampNeg), .int (zj h 0 b1 ((6 * v4) + 4).toNatClampNeg), .int (zj h 0 b1 ((6 * v4) + 3).toNatClampNeg), .int (zj h 0 b1 ((6 * v4) + 2).toNatClampNeg), .int (zj h 0 b1 ((6 * v4) + 1).toNatClampNeg), .int (zj h 0 b1 (6 * v4).toNatClampNeg), .ref b2]) (by rw [eb2]; first | done | rfl) ?_
      obtain ⟨hc, hF⟩ := hF
      obtain ⟨c3, s4, hc1, hs1, hF⟩ := hF
      refine zc_call (c1 := c3) (s1 := s4) (rest := []) hH hB hc1 hs1 (fun hf => zc_rV X hH hc (by decide) rfl (As := [.int (zj h 0 b1 (6 * v4).toNatClampNeg), .int (zj h 0 b1 ((6 * v4) + 1).toNatClampNeg), .int (zj h 0 b1 ((6 * v4) + 2).toNatClampNeg), .int (zj h 0 b1 ((6 * v4) + 3).toNatClampNeg), .int (zj h 0 b1 ((6 * v4) + 4).toNatClampNeg), .int (zj h 0 b1 ((6 * v4) + 5).toNatClampNeg)]) (wc_X5_works X.2.2.2.2.2.2.2.1 hF) (lw_V q259 q260 q261 q91 q262) ⟨rfl, by decide, by decide, rfl⟩ ⟨Nat.le_of_ble_eq_true rfl, Nat.le_of_ble_eq_true rfl, Nat.le_of_ble_eq_true rfl⟩ rfl hl.1 (st0 := [.int (zj h 0 b1 ((6 * v4) + 5).toNatClampNeg), .int (zj h 0 b1 ((6 * v4) + 4).toNatClampNeg), .int (zj h 0 b1 ((6 * v4) + 3).toNatClampNeg), .int (zj h 0 b1 ((6 * v4) + 2).toNatClampNeg), .int (zj h 0 b1 ((6 * v4) + 1).toNatClampNeg), .int (zj h 0 b1 (6 * v4).toNatClampNeg), .ref b2]) rfl (Nat.le_of_ble_eq_true rfl) dX1_firstRefused_62 hf) (fun E9 ce9 q7 h8 H locs hx9 hH hB hce hcv hcl => ?_) (fun v9 h6 H locs hv9 hH hB => ?_)
      · obtain ⟨rfl, hF⟩ := hx9
        refine zc_catch X hT (by decide) (by decide) (nm := "ChurchyardBook$Refused") q258 (by decide +kernel) hce hcv hcl ?_
        exact wc_X1_firstRefused_70 X hN hT ih h8 (bc - c3) (bs - s4) v4 (some q7) hF _ _ _ _ _ hB (lv_sub hl [0, 4] rfl) hH
      obtain ⟨z5, rfl, hF⟩ := hv9
      refine lv_istore (lv' := [(5, .int z5), (0, .ref o), (1, va_rf q1), (2, va_rf q2), (3, .int v3), (4, .int v4)]) hx hb dX1_firstRefused_65 hl (by decide) rfl (fun ls hl => ?_)
      refine lv_goto (tgt := 75) hx hb dX1_firstRefused_67 (by decide) ?_
      obtain ⟨x9, ex9⟩ : ∃ z : Int32, z = v4 + 1 := ⟨_, rfl⟩
      have hF := hF x9 ex9
      refine lv_iinc (v := x9) (lv' := [(4, .int x9), (5, .int z5), (0, .ref o), (1, va_rf q1), (2, va_rf q2), (3, .int v3)]) hx hb dX1_firstRefused_75 hl (k := 5) rfl (by rw [ex9]; rfl) (by decide) rfl (fun ls hl => ?_)
      refine lv_goto (tgt := 3) hx hb dX1_firstRefused_78 (by decide) ?_
      exact ih h6 (bc - c3) (bs - s4) q1 q2 v3 x9 hF _ _ _ _ _ hB (lv_sub hl [2, 3, 4, 5, 0] rfl) hH
set_option maxHeartbeats 4000000 in
set_option maxRecDepth 100000 in
theorem wc_X1_firstRefused {l : Launch} {D : va_G} {cA : Nat → ClassId} {P : Nat → Prop} {G : Nat × Nat × Nat} {o : Nat} {Q : Int32 → ZH → Prop} {h : ZH} {C S : Nat} {q1 : Option Nat} {q2 : Option Nat} {v3 : Int32} (hl9 : l.stackTraces = false) (hF : fc_X1_firstRefused G o Q h C S q1 q2 v3) :
    zc_M l yX1_firstRefused (wsW_ yX1_firstRefused cX1_firstRefused 6 (some .int) [(9, 67, 70, 63)]) 13 D cA P G [.ref o, va_rf q1, va_rf q2, .int v3] h C S (fun v h' => ∃ z : Int32, v = some (.int z) ∧ Q z h') zc_no := by
  refine zc_ofH [(9, 67, 70, 63)] hl9 rfl (by decide +kernel) (zc_slle (by simp [zc_k1, zc_kI, zc_kR]) (Nat.le_of_ble_eq_true rfl)) ?_
  intro p e s m args below meth c H locs ls X hN hT hH hl
  have hx := X.1
  have hb := X.2.1
  have hown := X.2.2.2.1
  have hts := X.2.2.2.2.1
  have hl : lv_has ls 6 [(0, .ref o), (1, va_rf q1), (2, va_rf q2), (3, .int v3)] := by
    have h9 := hl
    rw [zc_ags _ (by simp [zc_k1, zc_kI, zc_kR]) 0] at h9
    exact h9
  have hB : 0 + C ≤ C ∧ 0 + S ≤ S := ⟨by omega, by omega⟩
  unfold fc_X1_firstRefused at hF
  refine lv_iconst (v := 0) hx hb dX1_firstRefused_0 (by decide) ?_
  refine lv_istore (lv' := [(4, .int 0), (0, .ref o), (1, va_rf q1), (2, va_rf q2), (3, .int v3)]) hx hb dX1_firstRefused_1 hl (by decide) rfl (fun ls hl => ?_)
  obtain ⟨n9, hF⟩ := hF
  exact wc_X1_firstRefused_3 X hN hT n9 h C S q1 q2 v3 0 hF _ _ _ _ _ hB (lv_sub hl [1, 2, 3, 4, 0] rfl) hH
set_option maxHeartbeats 4000000 in
set_option maxRecDepth 100000 in
theorem wc_X1_feed {l : Launch} {D : va_G} {cA : Nat → ClassId} {P : Nat → Prop} {G : Nat × Nat × Nat} {o : Nat} {Q : Int32 → ZH → Prop} {h : ZH} {C S : Nat} {v1 : Int32} {v2 : Int32} {v3 : Int32} {v4 : Int32} {v5 : Int32} {v6 : Int32} (hl9 : l.stackTraces = false) (hF : fc_X1_feed G o Q h C S v1 v2 v3 v4 v5 v6) :
    zc_M l yX1_feed (ws_ yX1_feed cX1_feed 7 (some .int)) 2 D cA P G [.ref o, .int v1, .int v2, .int v3, .int v4, .int v5, .int v6] h C S (fun v h' => ∃ z : Int32, v = some (.int z) ∧ Q z h') zc_no := by
  refine zc_ofF hl9 rfl (by decide +kernel) (Nat.le_of_ble_eq_true rfl) ?_
  intro p e s m args below meth c H locs ls X hN hT hH hl
  have hx := X.1
  have hb := X.2.1
  have hown := X.2.2.2.1
  have hts := X.2.2.2.2.1
  have hl : lv_has ls 7 [(0, .ref o), (1, .int v1), (2, .int v2), (3, .int v3), (4, .int v4), (5, .int v5), (6, .int v6)] := hl
  have hB : 0 + C ≤ C ∧ 0 + S ≤ S := ⟨by omega, by omega⟩
  unfold fc_X1_feed at hF
  refine lv_aload_n hx hb dX1_feed_0 rfl (lv_at hl 0 rfl) ?_
  obtain ⟨hc, hF⟩ := hF
  refine zc_getf X hH hc 6 106 ("ChurchyardBook", "taped", "I", false) (by decide +kernel) (v := .int (zi h 106 o)) rfl q220 (Or.inl rfl) dX1_feed_1 ?_
  refine lv_sipush (v := 400) hx hb dX1_feed_4 (by decide) ?_
  refine lv_icmp_ne (tgt := 12) hx hb dX1_feed_7 (by decide) (fun cd => ?_) (fun cd => ?_)
  · have hF := hF.1 cd
    refine lv_aload_n hx hb dX1_feed_12 rfl (lv_at hl 0 rfl) ?_
    obtain ⟨hc, hF⟩ := hF
    refine zc_getf X hH hc 5 105 ("ChurchyardBook", "tape", "[I", true) (by decide +kernel) (v := va_rf (zr h 105 o)) rfl q219 (Or.inl rfl) dX1_feed_13 ?_
    refine lv_aload_n hx hb dX1_feed_16 rfl (lv_at hl 0 rfl) ?_
    obtain ⟨hc, hF⟩ := hF
    refine zc_getf X hH hc 6 106 ("ChurchyardBook", "taped", "I", false) (by decide +kernel) (v := .int (zi h 106 o)) rfl q220 (Or.inl rfl) dX1_feed_17 ?_
    refine lv_iload_n hx hb dX1_feed_20 rfl (lv_at hl 1 rfl) ?_
    refine lv_iload_n hx hb dX1_feed_21 rfl (lv_at hl 2 rfl) ?_
    refine lv_iload_n hx hb dX1_feed_22 rfl (lv_at hl 3 rfl) ?_
    refine lv_iload hx hb dX1_feed_23 (lv_at hl 4 rfl) ?_
    refine lv_iload hx hb dX1_feed_25 (lv_at hl 5 rfl) ?_
    refine lv_iload hx hb dX1_feed_27 (lv_at hl 6 rfl) ?_
    obtain ⟨c1, s2, hc1, hs1, hF⟩ := hF
    refine zc_call (c1 := c1) (s1 := s2) (rest := []) hH hB hc1 hs1 (fun hf => zc_rS X hH (As := [va_rf (zr h 105 o), .int (zi h 106 o), .int v1, .int v2, .int v3, .int v4, .int v5, .int v6]) (wc_X1_write X.2.2.2.2.2.2.2.1 hF) (lw_S q244 q245 q87 q246) ⟨by decide, by decide, rfl⟩ ⟨Nat.le_of_ble_eq_true rfl, Nat.le_of_ble_eq_true rfl, Nat.le_of_ble_eq_true rfl⟩ rfl hl.1 (st0 := [.int v6, .int v5, .int v4, .int v3, .int v2, .int v1, .int (zi h 106 o), va_rf (zr h 105 o)]) rfl (Nat.le_of_ble_eq_true rfl) dX1_feed_29 hf) (fun E9 ce9 q9 h9 H locs hx9 => False.elim hx9) (fun v9 h3 H locs hv9 hH hB => ?_)
    obtain ⟨rfl, hF⟩ := hv9
    refine lv_aload_n hx hb dX1_feed_32 rfl (lv_at hl 0 rfl) ?_
    refine lv_dup hx hb dX1_feed_33 rfl ?_
    obtain ⟨hc, hF⟩ := hF
    refine zc_getf X hH hc 6 106 ("ChurchyardBook", "taped", "I", false) (by decide +kernel) (v := .int (zi h3 106 o)) rfl q220 (Or.inl rfl) dX1_feed_34 ?_
    refine lv_iconst (v := 1) hx hb dX1_feed_37 (by decide) ?_
    refine lv_iadd hx hb dX1_feed_38 ?_
    obtain ⟨hc, hF⟩ := hF
    refine zc_puti X hH hc 6 106 ("ChurchyardBook", "taped", "I", false) (by decide +kernel) rfl q220 (Or.inl rfl) (ty := .int) (by decide +kernel) rfl rfl (Or.inl rfl) dX1_feed_39 (fun h4 H locs eh4 hH => ?_)
    have hF := hF h4 eh4
    refine lv_aload_n hx hb dX1_feed_42 rfl (lv_at hl 0 rfl) ?_
    obtain ⟨hc, hF⟩ := hF
    refine zc_getf X hH hc 6 106 ("ChurchyardBook", "taped", "I", false) (by decide +kernel) (v := .int (zi h4 106 o)) rfl q220 (Or.inl rfl) dX1_feed_43 ?_
    exact zc_iret X hH hB rfl rfl ⟨_, rfl, hF⟩ dX1_feed_46
  · have hF := hF.2 cd
    refine lv_iconst (v := (-1)) hx hb dX1_feed_10 (by decide) ?_
    exact zc_iret X hH hB rfl rfl ⟨_, rfl, hF⟩ dX1_feed_11
set_option maxHeartbeats 4000000 in
set_option maxRecDepth 100000 in
theorem wc_X1_check {l : Launch} {D : va_G} {cA : Nat → ClassId} {P : Nat → Prop} {G : Nat × Nat × Nat} {o : Nat} {Q : Int32 → ZH → Prop} {h : ZH} {C S : Nat} (hl9 : l.stackTraces = false) (hF : fc_X1_check G o Q h C S) :
    zc_M l yX1_check (ws_ yX1_check cX1_check 2 (some .int)) 14 D cA P G [.ref o] h C S (fun v h' => ∃ z : Int32, v = some (.int z) ∧ Q z h') zc_no := by
  refine zc_ofF hl9 rfl (by decide +kernel) (Nat.le_of_ble_eq_true rfl) ?_
  intro p e s m args below meth c H locs ls X hN hT hH hl
  have hx := X.1
  have hb := X.2.1
  have hown := X.2.2.2.1
  have hts := X.2.2.2.2.1
  have hl : lv_has ls 2 [(0, .ref o)] := hl
  have hB : 0 + C ≤ C ∧ 0 + S ≤ S := ⟨by omega, by omega⟩
  unfold fc_X1_check at hF
  refine lv_aload_n hx hb dX1_check_0 rfl (lv_at hl 0 rfl) ?_
  obtain ⟨hc, hF⟩ := hF
  refine zc_getf X hH hc 7 107 ("ChurchyardBook", "tries", "I", false) (by decide +kernel) (v := .int (zi h 107 o)) rfl q221 (Or.inl rfl) dX1_check_1 ?_
  refine lv_bipush (v := 60) hx hb dX1_check_4 (by decide) ?_
  refine lv_icmp_ne (tgt := 12) hx hb dX1_check_6 (by decide) (fun cd => ?_) (fun cd => ?_)
  · have hF := hF.1 cd
    refine lv_aload_n hx hb dX1_check_12 rfl (lv_at hl 0 rfl) ?_
    refine lv_dup hx hb dX1_check_13 rfl ?_
    obtain ⟨hc, hF⟩ := hF
    refine zc_getf X hH hc 7 107 ("ChurchyardBook", "tries", "I", false) (by decide +kernel) (v := .int (zi h 107 o)) rfl q221 (Or.inl rfl) dX1_check_14 ?_
    refine lv_iconst (v := 1) hx hb dX1_check_17 (by decide) ?_
    refine lv_iadd hx hb dX1_check_18 ?_
    obtain ⟨hc, hF⟩ := hF
    refine zc_puti X hH hc 7 107 ("ChurchyardBook", "tries", "I", false) (by decide +kernel) rfl q221 (Or.inl rfl) (ty := .int) (by decide +kernel) rfl rfl (Or.inl rfl) dX1_check_19 (fun h1 H locs eh1 hH => ?_)
    have hF := hF h1 eh1
    refine lv_aload_n hx hb dX1_check_22 rfl (lv_at hl 0 rfl) ?_
    obtain ⟨hc, hF⟩ := hF
    refine zc_getf X hH hc 6 106 ("ChurchyardBook", "taped", "I", false) (by decide +kernel) (v := .int (zi h1 106 o)) rfl q220 (Or.inl rfl) dX1_check_23 ?_
    refine lv_topi (fun x2 ex2 => ?_)
    have hF := hF x2 ex2
    refine lv_istore_n (lv' := [(1, .int x2), (0, .ref o)]) hx hb dX1_check_26 rfl hl (by decide) rfl (fun ls hl => ?_)
    refine lv_aload_n hx hb dX1_check_27 rfl (lv_at hl 1 rfl) ?_
    refine lv_iconst (v := 0) hx hb dX1_check_28 (by decide) ?_
    obtain ⟨hc, hF⟩ := hF
    refine zc_puti X hH hc 6 106 ("ChurchyardBook", "taped", "I", false) (by decide +kernel) rfl q220 (Or.inl rfl) (ty := .int) (by decide +kernel) rfl rfl (Or.inl rfl) dX1_check_29 (fun h3 H locs eh3 hH => ?_)
    have hF := hF h3 eh3
    refine lv_aload_n hx hb dX1_check_32 rfl (lv_at hl 1 rfl) ?_
    obtain ⟨hc1, hF⟩ := hF
    obtain ⟨hs1, hF⟩ := hF
    refine zc_new X hH hB (ci := 3) rfl (n := 6) q149 q150 q91 (by decide) hc1 hs1 dX1_check_33 (fun a4 h5 H hza4 eh5 hH hB => ?_)
    have hF := hF a4 h5 hza4 eh5
    refine lv_dup hx hb dX1_check_36 rfl ?_
    refine lv_aload_n hx hb dX1_check_37 rfl (lv_at hl 1 rfl) ?_
    obtain ⟨c6, s7, hc1, hs1, hF⟩ := hF
    refine zc_call (c1 := c6) (s1 := s7) (rest := [.ref a4, .ref o]) hH hB hc1 hs1 (fun hf => zc_rIN X hH (As := [.ref o]) (host := "ChurchyardBook") (wc_X5_init X.2.2.2.2.2.2.2.1 hF) (lw_meth q153) (by decide +kernel) q91 q152 rfl ⟨by decide, by decide, rfl⟩ ⟨Nat.le_of_ble_eq_true rfl, Nat.le_of_ble_eq_true rfl, Nat.le_of_ble_eq_true rfl⟩ rfl hl.1 (st0 := [.ref o, .ref a4, .ref a4, .ref o]) rfl (Nat.le_of_ble_eq_true rfl) dX1_check_38 hf) (fun E9 ce9 q9 h9 H locs hx9 => False.elim hx9) (fun v9 h8 H locs hv9 hH hB => ?_)
    obtain ⟨rfl, hF⟩ := hv9
    refine lv_aload_n hx hb dX1_check_41 rfl (lv_at hl 1 rfl) ?_
    obtain ⟨hc, hF⟩ := hF
    refine zc_getf X hH hc 5 105 ("ChurchyardBook", "tape", "[I", true) (by decide +kernel) (v := va_rf (zr h8 105 o)) rfl q219 (Or.inl rfl) dX1_check_42 ?_
    refine lv_iload_n hx hb dX1_check_45 rfl (lv_at hl 0 rfl) ?_
    obtain ⟨hc, hF⟩ := hF
    obtain ⟨c9, s10, hc1, hs1, hF⟩ := hF
    refine zc_call (c1 := c9) (s1 := s10) (rest := []) hH hB hc1 hs1 (fun hf => zc_rVW X hH hc (by decide) rfl (As := [.ref a4, va_rf (zr h8 105 o), .int x2]) (wc_X1_firstRefused X.2.2.2.2.2.2.2.1 hF) (lw_VW q254 q256 qs0 q87 q257) ⟨rfl, by decide, by decide, rfl⟩ ⟨Nat.le_of_ble_eq_true rfl, Nat.le_of_ble_eq_true rfl, Nat.le_of_ble_eq_true rfl⟩ rfl hl.1 (st0 := [.int x2, va_rf (zr h8 105 o), .ref a4, .ref o]) rfl (Nat.le_of_ble_eq_true rfl) dX1_check_46 hf) (fun E9 ce9 q9 h9 H locs hx9 => False.elim hx9) (fun v9 h12 H locs hv9 hH hB => ?_)
    obtain ⟨z11, rfl, hF⟩ := hv9
    exact zc_iret X hH hB rfl rfl ⟨_, rfl, hF⟩ dX1_check_49
  · have hF := hF.2 cd
    refine lv_bipush (v := (-2)) hx hb dX1_check_9 (by decide) ?_
    exact zc_iret X hH hB rfl rfl ⟨_, rfl, hF⟩ dX1_check_11
set_option maxHeartbeats 4000000 in
set_option maxRecDepth 100000 in
theorem wc_X1_load {l : Launch} {D : va_G} {cA : Nat → ClassId} {P : Nat → Prop} {G : Nat × Nat × Nat} {o : Nat} {Q : Int32 → ZH → Prop} {h : ZH} {C S : Nat} (hl9 : l.stackTraces = false) (hF : fc_X1_load G o Q h C S) :
    zc_M l yX1_load (ws_ yX1_load cX1_load 3 (some .int)) 14 D cA P G [.ref o] h C S (fun v h' => ∃ z : Int32, v = some (.int z) ∧ Q z h') zc_no := by
  refine zc_ofF hl9 rfl (by decide +kernel) (Nat.le_of_ble_eq_true rfl) ?_
  intro p e s m args below meth c H locs ls X hN hT hH hl
  have hx := X.1
  have hb := X.2.1
  have hown := X.2.2.2.1
  have hts := X.2.2.2.2.1
  have hl : lv_has ls 3 [(0, .ref o)] := hl
  have hB : 0 + C ≤ C ∧ 0 + S ≤ S := ⟨by omega, by omega⟩
  unfold fc_X1_load at hF
  refine lv_aload_n hx hb dX1_load_0 rfl (lv_at hl 0 rfl) ?_
  obtain ⟨hc, hF⟩ := hF
  refine zc_getf X hH hc 7 107 ("ChurchyardBook", "tries", "I", false) (by decide +kernel) (v := .int (zi h 107 o)) rfl q221 (Or.inl rfl) dX1_load_1 ?_
  refine lv_bipush (v := 60) hx hb dX1_load_4 (by decide) ?_
  refine lv_icmp_ne (tgt := 12) hx hb dX1_load_6 (by decide) (fun cd => ?_) (fun cd => ?_)
  · have hF := hF.1 cd
    refine lv_aload_n hx hb dX1_load_12 rfl (lv_at hl 0 rfl) ?_
    refine lv_dup hx hb dX1_load_13 rfl ?_
    obtain ⟨hc, hF⟩ := hF
    refine zc_getf X hH hc 7 107 ("ChurchyardBook", "tries", "I", false) (by decide +kernel) (v := .int (zi h 107 o)) rfl q221 (Or.inl rfl) dX1_load_14 ?_
    refine lv_iconst (v := 1) hx hb dX1_load_17 (by decide) ?_
    refine lv_iadd hx hb dX1_load_18 ?_
    obtain ⟨hc, hF⟩ := hF
    refine zc_puti X hH hc 7 107 ("ChurchyardBook", "tries", "I", false) (by decide +kernel) rfl q221 (Or.inl rfl) (ty := .int) (by decide +kernel) rfl rfl (Or.inl rfl) dX1_load_19 (fun h1 H locs eh1 hH => ?_)
    have hF := hF h1 eh1
    refine lv_aload_n hx hb dX1_load_22 rfl (lv_at hl 0 rfl) ?_
    obtain ⟨hc, hF⟩ := hF
    refine zc_getf X hH hc 6 106 ("ChurchyardBook", "taped", "I", false) (by decide +kernel) (v := .int (zi h1 106 o)) rfl q220 (Or.inl rfl) dX1_load_23 ?_
    refine lv_topi (fun x2 ex2 => ?_)
    have hF := hF x2 ex2
    refine lv_istore_n (lv' := [(1, .int x2), (0, .ref o)]) hx hb dX1_load_26 rfl hl (by decide) rfl (fun ls hl => ?_)
    refine lv_aload_n hx hb dX1_load_27 rfl (lv_at hl 1 rfl) ?_
    refine lv_iconst (v := 0) hx hb dX1_load_28 (by decide) ?_
    obtain ⟨hc, hF⟩ := hF
    refine zc_puti X hH hc 6 106 ("ChurchyardBook", "taped", "I", false) (by decide +kernel) rfl q220 (Or.inl rfl) (ty := .int) (by decide +kernel) rfl rfl (Or.inl rfl) dX1_load_29 (fun h3 H locs eh3 hH => ?_)
    have hF := hF h3 eh3
    obtain ⟨hc1, hF⟩ := hF
    obtain ⟨hs1, hF⟩ := hF
    refine zc_new X hH hB (ci := 3) rfl (n := 6) q149 q150 q91 (by decide) hc1 hs1 dX1_load_32 (fun a4 h5 H hza4 eh5 hH hB => ?_)
    have hF := hF a4 h5 hza4 eh5
    refine lv_dup hx hb dX1_load_35 rfl ?_
    refine lv_aload_n hx hb dX1_load_36 rfl (lv_at hl 1 rfl) ?_
    obtain ⟨c6, s7, hc1, hs1, hF⟩ := hF
    refine zc_call (c1 := c6) (s1 := s7) (rest := [.ref a4]) hH hB hc1 hs1 (fun hf => zc_rIN X hH (As := [.ref o]) (host := "ChurchyardBook") (wc_X5_init X.2.2.2.2.2.2.2.1 hF) (lw_meth q153) (by decide +kernel) q91 q152 rfl ⟨by decide, by decide, rfl⟩ ⟨Nat.le_of_ble_eq_true rfl, Nat.le_of_ble_eq_true rfl, Nat.le_of_ble_eq_true rfl⟩ rfl hl.1 (st0 := [.ref o, .ref a4, .ref a4]) rfl (Nat.le_of_ble_eq_true rfl) dX1_load_37 hf) (fun E9 ce9 q9 h9 H locs hx9 => False.elim hx9) (fun v9 h8 H locs hv9 hH hB => ?_)
    obtain ⟨rfl, hF⟩ := hv9
    refine zq_astore_n (r := (some a4)) (lv' := [(2, .ref a4), (1, .int x2), (0, .ref o)]) hx hb rfl dX1_load_40 rfl hl (by decide) rfl (fun ls hl => ?_)
    refine lv_aload_n hx hb dX1_load_41 rfl (lv_at hl 2 rfl) ?_
    refine lv_aload_n hx hb dX1_load_42 rfl (lv_at hl 0 rfl) ?_
    refine lv_aload_n hx hb dX1_load_43 rfl (lv_at hl 2 rfl) ?_
    obtain ⟨hc, hF⟩ := hF
    refine zc_getf X hH hc 5 105 ("ChurchyardBook", "tape", "[I", true) (by decide +kernel) (v := va_rf (zr h8 105 o)) rfl q219 (Or.inl rfl) dX1_load_44 ?_
    refine lv_iload_n hx hb dX1_load_47 rfl (lv_at hl 1 rfl) ?_
    obtain ⟨hc, hF⟩ := hF
    obtain ⟨c9, s10, hc1, hs1, hF⟩ := hF
    refine zc_call (c1 := c9) (s1 := s10) (rest := []) hH hB hc1 hs1 (fun hf => zc_rVW X hH hc (by decide) rfl (As := [.ref a4, va_rf (zr h8 105 o), .int x2]) (wc_X1_firstRefused X.2.2.2.2.2.2.2.1 hF) (lw_VW q254 q256 qs0 q87 q257) ⟨rfl, by decide, by decide, rfl⟩ ⟨Nat.le_of_ble_eq_true rfl, Nat.le_of_ble_eq_true rfl, Nat.le_of_ble_eq_true rfl⟩ rfl hl.1 (st0 := [.int x2, va_rf (zr h8 105 o), .ref a4, .ref o]) rfl (Nat.le_of_ble_eq_true rfl) dX1_load_48 hf) (fun E9 ce9 q9 h9 H locs hx9 => False.elim hx9) (fun v9 h12 H locs hv9 hH hB => ?_)
    obtain ⟨z11, rfl, hF⟩ := hv9
    refine lv_iconst (v := (-1)) hx hb dX1_load_51 (by decide) ?_
    refine lv_icmp_eq (tgt := 57) hx hb dX1_load_52 (by decide) (fun cd => ?_) (fun cd => ?_)
    · have hF := hF.1 cd
      refine lv_aload_n hx hb dX1_load_57 rfl (lv_at hl 2 rfl) ?_
      refine lv_aload_n hx hb dX1_load_58 rfl (lv_at hl 0 rfl) ?_
      obtain ⟨hc, hF⟩ := hF
      refine zc_putr X hH hc 2 102 ("ChurchyardBook", "book", "LChurchyardBook$Book;", false) (by decide +kernel) rfl q216 (Or.inl rfl) (x := (some a4)) rfl (ty := (.object "ChurchyardBook$Book")) (by decide +kernel) rfl (Or.inl rfl) dX1_load_59 (fun h13 H locs eh13 hH => ?_)
      have hF := hF h13 eh13
      refine lv_aload_n hx hb dX1_load_62 rfl (lv_at hl 2 rfl) ?_
      obtain ⟨hc, hF⟩ := hF
      refine zc_getf X hH hc 5 105 ("ChurchyardBook", "tape", "[I", true) (by decide +kernel) (v := va_rf (zr h13 105 o)) rfl q219 (Or.inl rfl) dX1_load_63 ?_
      refine lv_iconst (v := 0) hx hb dX1_load_66 (by decide) ?_
      refine lv_aload_n hx hb dX1_load_67 rfl (lv_at hl 2 rfl) ?_
      obtain ⟨hc, hF⟩ := hF
      refine zc_getf X hH hc 3 103 ("ChurchyardBook", "acts", "[I", true) (by decide +kernel) (v := va_rf (zr h13 103 o)) rfl q217 (Or.inl rfl) dX1_load_68 ?_
      refine lv_iconst (v := 0) hx hb dX1_load_71 (by decide) ?_
      refine lv_bipush (v := 6) hx hb dX1_load_72 (by decide) ?_
      refine lv_iload_n hx hb dX1_load_74 rfl (lv_at hl 1 rfl) ?_
      refine lv_imul hx hb dX1_load_75 ?_
      obtain ⟨b14, eb14, hF⟩ := hF
      refine zq_st (st2 := [.int (6 * x2), .int 0, .ref b14, .int 0, va_rf (zr h13 105 o)]) (by rw [eb14]; first | done | rfl) ?_
      obtain ⟨b15, eb15, hF⟩ := hF
      refine zq_st (st2 := [.int (6 * x2), .int 0, .ref b14, .int 0, .ref b15]) (by rw [eb15]; first | done | rfl) ?_
      obtain ⟨ha1, hF⟩ := hF
      obtain ⟨ha2, hF⟩ := hF
      obtain ⟨ha3, hF⟩ := hF
      obtain ⟨ha4, hF⟩ := hF
      obtain ⟨h16, eh16⟩ : ∃ z : ZH, z = zcpj h13 0 b15 (0 : Int32).toNatClampNeg b14 (0 : Int32).toNatClampNeg (6 * x2).toNatClampNeg := ⟨_, rfl⟩
      have hF := hF h16 eh16
      refine zc_copy (R := zc_Ro 14 C S) (rest := []) X hH hl.1 q247 q249 q248 q103 0 (by decide) ha1 ha2 ha3 ha4.1 ha4.2.1 ha4.2.2.1 ha4.2.2.2.1 ha4.2.2.2.2 (fun h9 => by cases h9) (h' := h16) eh16 (Nat.le_of_ble_eq_true rfl) (Nat.le_of_ble_eq_true rfl) dX1_load_76 (fun H locs hH => ?_)
      refine lv_aload_n hx hb dX1_load_79 rfl (lv_at hl 2 rfl) ?_
      refine lv_iload_n hx hb dX1_load_80 rfl (lv_at hl 1 rfl) ?_
      obtain ⟨hc, hF⟩ := hF
      refine zc_puti X hH hc 4 104 ("ChurchyardBook", "many", "I", false) (by decide +kernel) rfl q218 (Or.inl rfl) (ty := .int) (by decide +kernel) rfl rfl (Or.inl rfl) dX1_load_81 (fun h17 H locs eh17 hH => ?_)
      have hF := hF h17 eh17
      refine lv_iload_n hx hb dX1_load_84 rfl (lv_at hl 1 rfl) ?_
      exact zc_iret X hH hB rfl rfl ⟨_, rfl, hF⟩ dX1_load_85
    · have hF := hF.2 cd
      refine lv_iconst (v := (-1)) hx hb dX1_load_55 (by decide) ?_
      exact zc_iret X hH hB rfl rfl ⟨_, rfl, hF⟩ dX1_load_56
  · have hF := hF.2 cd
    refine lv_bipush (v := (-2)) hx hb dX1_load_9 (by decide) ?_
    exact zc_iret X hH hB rfl rfl ⟨_, rfl, hF⟩ dX1_load_11
set_option maxHeartbeats 4000000 in
set_option maxRecDepth 100000 in
theorem wc_X1_undo {l : Launch} {D : va_G} {cA : Nat → ClassId} {P : Nat → Prop} {G : Nat × Nat × Nat} {o : Nat} {Q : Int32 → ZH → Prop} {h : ZH} {C S : Nat} (hl9 : l.stackTraces = false) (hF : fc_X1_undo G o Q h C S) :
    zc_M l yX1_undo (ws_ yX1_undo cX1_undo 2 (some .int)) 14 D cA P G [.ref o] h C S (fun v h' => ∃ z : Int32, v = some (.int z) ∧ Q z h') zc_no := by
  refine zc_ofF hl9 rfl (by decide +kernel) (Nat.le_of_ble_eq_true rfl) ?_
  intro p e s m args below meth c H locs ls X hN hT hH hl
  have hx := X.1
  have hb := X.2.1
  have hown := X.2.2.2.1
  have hts := X.2.2.2.2.1
  have hl : lv_has ls 2 [(0, .ref o)] := hl
  have hB : 0 + C ≤ C ∧ 0 + S ≤ S := ⟨by omega, by omega⟩
  unfold fc_X1_undo at hF
  refine lv_aload_n hx hb dX1_undo_0 rfl (lv_at hl 0 rfl) ?_
  obtain ⟨hc, hF⟩ := hF
  refine zc_getf X hH hc 4 104 ("ChurchyardBook", "many", "I", false) (by decide +kernel) (v := .int (zi h 104 o)) rfl q218 (Or.inl rfl) dX1_undo_1 ?_
  refine lv_if_ne (tgt := 9) hx hb dX1_undo_4 (by decide) (fun cd => ?_) (fun cd => ?_)
  · have hF := hF.1 cd
    refine lv_aload_n hx hb dX1_undo_9 rfl (lv_at hl 0 rfl) ?_
    obtain ⟨hc, hF⟩ := hF
    refine zc_getf X hH hc 7 107 ("ChurchyardBook", "tries", "I", false) (by decide +kernel) (v := .int (zi h 107 o)) rfl q221 (Or.inl rfl) dX1_undo_10 ?_
    refine lv_bipush (v := 60) hx hb dX1_undo_13 (by decide) ?_
    refine lv_icmp_ne (tgt := 21) hx hb dX1_undo_15 (by decide) (fun cd => ?_) (fun cd => ?_)
    · have hF := hF.1 cd
      refine lv_aload_n hx hb dX1_undo_21 rfl (lv_at hl 0 rfl) ?_
      refine lv_dup hx hb dX1_undo_22 rfl ?_
      obtain ⟨hc, hF⟩ := hF
      refine zc_getf X hH hc 7 107 ("ChurchyardBook", "tries", "I", false) (by decide +kernel) (v := .int (zi h 107 o)) rfl q221 (Or.inl rfl) dX1_undo_23 ?_
      refine lv_iconst (v := 1) hx hb dX1_undo_26 (by decide) ?_
      refine lv_iadd hx hb dX1_undo_27 ?_
      obtain ⟨hc, hF⟩ := hF
      refine zc_puti X hH hc 7 107 ("ChurchyardBook", "tries", "I", false) (by decide +kernel) rfl q221 (Or.inl rfl) (ty := .int) (by decide +kernel) rfl rfl (Or.inl rfl) dX1_undo_28 (fun h1 H locs eh1 hH => ?_)
      have hF := hF h1 eh1
      refine lv_aload_n hx hb dX1_undo_31 rfl (lv_at hl 0 rfl) ?_
      refine lv_dup hx hb dX1_undo_32 rfl ?_
      obtain ⟨hc, hF⟩ := hF
      refine zc_getf X hH hc 4 104 ("ChurchyardBook", "many", "I", false) (by decide +kernel) (v := .int (zi h1 104 o)) rfl q218 (Or.inl rfl) dX1_undo_33 ?_
      refine lv_iconst (v := 1) hx hb dX1_undo_36 (by decide) ?_
      refine lv_isub hx hb dX1_undo_37 ?_
      obtain ⟨hc, hF⟩ := hF
      refine zc_puti X hH hc 4 104 ("ChurchyardBook", "many", "I", false) (by decide +kernel) rfl q218 (Or.inl rfl) (ty := .int) (by decide +kernel) rfl rfl (Or.inl rfl) dX1_undo_38 (fun h2 H locs eh2 hH => ?_)
      have hF := hF h2 eh2
      refine lv_aload_n hx hb dX1_undo_41 rfl (lv_at hl 0 rfl) ?_
      obtain ⟨hc1, hF⟩ := hF
      obtain ⟨hs1, hF⟩ := hF
      refine zc_new X hH hB (ci := 3) rfl (n := 6) q149 q150 q91 (by decide) hc1 hs1 dX1_undo_42 (fun a3 h4 H hza3 eh4 hH hB => ?_)
      have hF := hF a3 h4 hza3 eh4
      refine lv_dup hx hb dX1_undo_45 rfl ?_
      refine lv_aload_n hx hb dX1_undo_46 rfl (lv_at hl 0 rfl) ?_
      obtain ⟨c5, s6, hc1, hs1, hF⟩ := hF
      refine zc_call (c1 := c5) (s1 := s6) (rest := [.ref a3, .ref o]) hH hB hc1 hs1 (fun hf => zc_rIN X hH (As := [.ref o]) (host := "ChurchyardBook") (wc_X5_init X.2.2.2.2.2.2.2.1 hF) (lw_meth q153) (by decide +kernel) q91 q152 rfl ⟨by decide, by decide, rfl⟩ ⟨Nat.le_of_ble_eq_true rfl, Nat.le_of_ble_eq_true rfl, Nat.le_of_ble_eq_true rfl⟩ rfl hl.1 (st0 := [.ref o, .ref a3, .ref a3, .ref o]) rfl (Nat.le_of_ble_eq_true rfl) dX1_undo_47 hf) (fun E9 ce9 q9 h9 H locs hx9 => False.elim hx9) (fun v9 h7 H locs hv9 hH hB => ?_)
      obtain ⟨rfl, hF⟩ := hv9
      obtain ⟨hc, hF⟩ := hF
      refine zc_putr X hH hc 2 102 ("ChurchyardBook", "book", "LChurchyardBook$Book;", false) (by decide +kernel) rfl q216 (Or.inl rfl) (x := (some a3)) rfl (ty := (.object "ChurchyardBook$Book")) (by decide +kernel) rfl (Or.inl rfl) dX1_undo_50 (fun h8 H locs eh8 hH => ?_)
      have hF := hF h8 eh8
      refine lv_aload_n hx hb dX1_undo_53 rfl (lv_at hl 0 rfl) ?_
      refine lv_aload_n hx hb dX1_undo_54 rfl (lv_at hl 0 rfl) ?_
      obtain ⟨hc, hF⟩ := hF
      refine zc_getf X hH hc 2 102 ("ChurchyardBook", "book", "LChurchyardBook$Book;", false) (by decide +kernel) (v := va_rf (zr h8 102 o)) rfl q216 (Or.inl rfl) dX1_undo_55 ?_
      refine lv_aload_n hx hb dX1_undo_58 rfl (lv_at hl 0 rfl) ?_
      obtain ⟨hc, hF⟩ := hF
      refine zc_getf X hH hc 3 103 ("ChurchyardBook", "acts", "[I", true) (by decide +kernel) (v := va_rf (zr h8 103 o)) rfl q217 (Or.inl rfl) dX1_undo_59 ?_
      refine lv_aload_n hx hb dX1_undo_62 rfl (lv_at hl 0 rfl) ?_
      obtain ⟨hc, hF⟩ := hF
      refine zc_getf X hH hc 4 104 ("ChurchyardBook", "many", "I", false) (by decide +kernel) (v := .int (zi h8 104 o)) rfl q218 (Or.inl rfl) dX1_undo_63 ?_
      obtain ⟨hc, hF⟩ := hF
      obtain ⟨c9, s10, hc1, hs1, hF⟩ := hF
      refine zc_call (c1 := c9) (s1 := s10) (rest := []) hH hB hc1 hs1 (fun hf => zc_rVW X hH hc (by decide) rfl (As := [va_rf (zr h8 102 o), va_rf (zr h8 103 o), .int (zi h8 104 o)]) (wc_X1_firstRefused X.2.2.2.2.2.2.2.1 hF) (lw_VW q254 q256 qs0 q87 q257) ⟨rfl, by decide, by decide, rfl⟩ ⟨Nat.le_of_ble_eq_true rfl, Nat.le_of_ble_eq_true rfl, Nat.le_of_ble_eq_true rfl⟩ rfl hl.1 (st0 := [.int (zi h8 104 o), va_rf (zr h8 103 o), va_rf (zr h8 102 o), .ref o]) rfl (Nat.le_of_ble_eq_true rfl) dX1_undo_66 hf) (fun E9 ce9 q9 h9 H locs hx9 => False.elim hx9) (fun v9 h12 H locs hv9 hH hB => ?_)
      obtain ⟨z11, rfl, hF⟩ := hv9
      refine lv_istore_n (lv' := [(1, .int z11), (0, .ref o)]) hx hb dX1_undo_69 rfl hl (by decide) rfl (fun ls hl => ?_)
      refine lv_aload_n hx hb dX1_undo_70 rfl (lv_at hl 1 rfl) ?_
      obtain ⟨hc, hF⟩ := hF
      refine zc_getf X hH hc 3 103 ("ChurchyardBook", "acts", "[I", true) (by decide +kernel) (v := va_rf (zr h12 103 o)) rfl q217 (Or.inl rfl) dX1_undo_71 ?_
      refine lv_bipush (v := 6) hx hb dX1_undo_74 (by decide) ?_
      refine lv_aload_n hx hb dX1_undo_76 rfl (lv_at hl 1 rfl) ?_
      obtain ⟨hc, hF⟩ := hF
      refine zc_getf X hH hc 4 104 ("ChurchyardBook", "many", "I", false) (by decide +kernel) (v := .int (zi h12 104 o)) rfl q218 (Or.inl rfl) dX1_undo_77 ?_
      refine lv_imul hx hb dX1_undo_80 ?_
      obtain ⟨b13, eb13, hF⟩ := hF
      refine zq_st (st2 := [.int (6 * (zi h12 104 o)), .ref b13]) (by rw [eb13]; first | done | rfl) ?_
      obtain ⟨hc, hF⟩ := hF
      obtain ⟨hI, hF⟩ := hF
      refine zc_iald X hH hc hI dX1_undo_81 ?_
      exact zc_iret X hH hB rfl rfl ⟨_, rfl, hF⟩ dX1_undo_82
    · have hF := hF.2 cd
      refine lv_bipush (v := (-2)) hx hb dX1_undo_18 (by decide) ?_
      exact zc_iret X hH hB rfl rfl ⟨_, rfl, hF⟩ dX1_undo_20
  · have hF := hF.2 cd
    refine lv_iconst (v := (-1)) hx hb dX1_undo_7 (by decide) ?_
    exact zc_iret X hH hB rfl rfl ⟨_, rfl, hF⟩ dX1_undo_8
set_option maxHeartbeats 4000000 in
set_option maxRecDepth 100000 in
theorem wc_X1_act_21 {p : Program} {l : Launch} {e : Env} {s : State} {m : MethodId} {args : Array Value} {below : List Frame} {meth : Method} {c : Code} {D : va_G} {cA : Nat → ClassId} {P : Nat → Prop} {G : Nat × Nat × Nat} {C S : Nat} {o : Nat} {Q : Int32 → Prop} {h0 : ZH} (X : zc_Cx p l s m args meth c cX1_act 3 (some .int) "ChurchyardBook" D cA P G) (hN : meth.name = "act") (hT : c.exceptionTable.toList = tableOf []) :
    ∀ (h : ZH), fc_X1_act_21 G o Q h → ∀ (H : Heap) (locs : List Loc) (ls : Array Slot) (cells slots : Nat), cells + 0 ≤ C ∧ slots + 0 ≤ S → h0 = h → lv_has ls 3 [(0, .ref o)] → zc_H D cA P h s H locs → W p l e (zc_Ro 1 C S) s m args below meth c H locs cells slots (vx_MQ below (zc_Q D cA P (fun v h' => ∃ z : Int32, v = some (.int z) ∧ Q z ∧ h0 = h')) (zc_X D cA P zc_no) args s C S P) (F0 m 21 ls []) := by
  have hx := X.1
  have hb := X.2.1
  have hown := X.2.2.2.1
  have hts := X.2.2.2.2.1
  intro h hF
  intro H locs ls cells slots hB eh hl hH
  unfold fc_X1_act_21 at hF
  refine lv_iconst (v := 0) hx hb dX1_act_21 (by decide) ?_
  refine lv_goto (tgt := 36) hx hb dX1_act_22 (by decide) ?_
  exact zc_iret X hH hB rfl rfl ⟨_, rfl, hF, eh⟩ dX1_act_36
set_option maxHeartbeats 4000000 in
set_option maxRecDepth 100000 in
theorem wc_X1_act {l : Launch} {D : va_G} {cA : Nat → ClassId} {P : Nat → Prop} {G : Nat × Nat × Nat} {o : Nat} {Q : Int32 → Prop} {h : ZH} {C S : Nat} {v1 : Int32} {v2 : Int32} (hl9 : l.stackTraces = false) (hF : fc_X1_act G o Q h v1 v2) :
    zc_M l yX1_act (ws_ yX1_act cX1_act 3 (some .int)) 1 D cA P G [.ref o, .int v1, .int v2] h C S (fun v h' => ∃ z : Int32, v = some (.int z) ∧ Q z ∧ h = h') zc_no := by
  refine zc_ofF hl9 rfl (by decide +kernel) (Nat.le_of_ble_eq_true rfl) ?_
  intro p e s m args below meth c H locs ls X hN hT hH hl
  have hx := X.1
  have hb := X.2.1
  have hown := X.2.2.2.1
  have hts := X.2.2.2.2.1
  have hl : lv_has ls 3 [(0, .ref o), (1, .int v1), (2, .int v2)] := hl
  have hB : 0 + 0 ≤ C ∧ 0 + 0 ≤ S := ⟨by omega, by omega⟩
  have eh : h = h := rfl
  unfold fc_X1_act at hF
  refine lv_iload_n hx hb dX1_act_0 rfl (lv_at hl 1 rfl) ?_
  refine lv_if_lt (tgt := 21) hx hb dX1_act_1 (by decide) (fun cd => ?_) (fun cd => ?_)
  · have hF := hF.1 cd
    exact wc_X1_act_21 X hN hT h hF _ _ _ _ _ hB eh (lv_sub hl [0] rfl) hH
  · have hF := hF.2 cd
    refine lv_iload_n hx hb dX1_act_4 rfl (lv_at hl 1 rfl) ?_
    refine lv_aload_n hx hb dX1_act_5 rfl (lv_at hl 0 rfl) ?_
    obtain ⟨hc, hF⟩ := hF
    refine zc_getf X hH hc 4 104 ("ChurchyardBook", "many", "I", false) (by decide +kernel) (v := .int (zi h 104 o)) rfl q218 (Or.inl rfl) dX1_act_6 ?_
    refine lv_icmp_ge (tgt := 21) hx hb dX1_act_9 (by decide) (fun cd => ?_) (fun cd => ?_)
    · have hF := hF.1 cd
      exact wc_X1_act_21 X hN hT h hF _ _ _ _ _ hB eh (lv_sub hl [0] rfl) hH
    · have hF := hF.2 cd
      refine lv_iload_n hx hb dX1_act_12 rfl (lv_at hl 2 rfl) ?_
      refine lv_if_lt (tgt := 21) hx hb dX1_act_13 (by decide) (fun cd => ?_) (fun cd => ?_)
      · have hF := hF.1 cd
        exact wc_X1_act_21 X hN hT h hF _ _ _ _ _ hB eh (lv_sub hl [0] rfl) hH
      · have hF := hF.2 cd
        refine lv_iload_n hx hb dX1_act_16 rfl (lv_at hl 2 rfl) ?_
        refine lv_iconst (v := 5) hx hb dX1_act_17 (by decide) ?_
        refine lv_icmp_le (tgt := 25) hx hb dX1_act_18 (by decide) (fun cd => ?_) (fun cd => ?_)
        · have hF := hF.1 cd
          refine lv_aload_n hx hb dX1_act_25 rfl (lv_at hl 0 rfl) ?_
          obtain ⟨hc, hF⟩ := hF
          refine zc_getf X hH hc 3 103 ("ChurchyardBook", "acts", "[I", true) (by decide +kernel) (v := va_rf (zr h 103 o)) rfl q217 (Or.inl rfl) dX1_act_26 ?_
          refine lv_bipush (v := 6) hx hb dX1_act_29 (by decide) ?_
          refine lv_iload_n hx hb dX1_act_31 rfl (lv_at hl 1 rfl) ?_
          refine lv_imul hx hb dX1_act_32 ?_
          refine lv_iload_n hx hb dX1_act_33 rfl (lv_at hl 2 rfl) ?_
          refine lv_iadd hx hb dX1_act_34 ?_
          obtain ⟨b1, eb1, hF⟩ := hF
          refine zq_st (st2 := [.int ((6 * v1) + v2), .ref b1]) (by rw [eb1]; first | done | rfl) ?_
          obtain ⟨hc, hF⟩ := hF
          obtain ⟨hI, hF⟩ := hF
          refine zc_iald X hH hc hI dX1_act_35 ?_
          exact zc_iret X hH hB rfl rfl ⟨_, rfl, hF, eh⟩ dX1_act_36
        · have hF := hF.2 cd
          exact wc_X1_act_21 X hN hT h hF _ _ _ _ _ hB eh (lv_sub hl [0] rfl) hH
set_option maxHeartbeats 4000000 in
set_option maxRecDepth 100000 in
theorem wc_X1_field {l : Launch} {D : va_G} {cA : Nat → ClassId} {P : Nat → Prop} {G : Nat × Nat × Nat} {o : Nat} {Q : Int32 → ZH → Prop} {h : ZH} {C S : Nat} {v1 : Int32} (hl9 : l.stackTraces = false) (hF : fc_X1_field G o Q h C S v1) :
    zc_M l yX1_field (ws_ yX1_field cX1_field 2 (some .int)) 14 D cA P G [.ref o, .int v1] h C S (fun v h' => ∃ z : Int32, v = some (.int z) ∧ Q z h') zc_no := by
  refine zc_ofF hl9 rfl (by decide +kernel) (Nat.le_of_ble_eq_true rfl) ?_
  intro p e s m args below meth c H locs ls X hN hT hH hl
  have hx := X.1
  have hb := X.2.1
  have hown := X.2.2.2.1
  have hts := X.2.2.2.2.1
  have hl : lv_has ls 2 [(0, .ref o), (1, .int v1)] := hl
  have hB : 0 + C ≤ C ∧ 0 + S ≤ S := ⟨by omega, by omega⟩
  unfold fc_X1_field at hF
  refine lv_aload_n hx hb dX1_field_0 rfl (lv_at hl 0 rfl) ?_
  refine lv_iconst (v := 1) hx hb dX1_field_1 (by decide) ?_
  refine lv_iload_n hx hb dX1_field_2 rfl (lv_at hl 1 rfl) ?_
  refine lv_iconst (v := 0) hx hb dX1_field_3 (by decide) ?_
  refine lv_iconst (v := 0) hx hb dX1_field_4 (by decide) ?_
  refine lv_iconst (v := 0) hx hb dX1_field_5 (by decide) ?_
  refine lv_iconst (v := 0) hx hb dX1_field_6 (by decide) ?_
  obtain ⟨hc, hF⟩ := hF
  obtain ⟨c1, s2, hc1, hs1, hF⟩ := hF
  refine zc_call (c1 := c1) (s1 := s2) (rest := []) hH hB hc1 hs1 (fun hf => zc_rVW X hH hc (by decide) rfl (As := [.int 1, .int v1, .int 0, .int 0, .int 0, .int 0]) (wc_X1_does X.2.2.2.2.2.2.2.1 hF) (lw_VW q1449 q1451 qs23 q87 q1452) ⟨rfl, by decide, by decide, rfl⟩ ⟨Nat.le_of_ble_eq_true rfl, Nat.le_of_ble_eq_true rfl, Nat.le_of_ble_eq_true rfl⟩ rfl hl.1 (st0 := [.int 0, .int 0, .int 0, .int 0, .int v1, .int 1, .ref o]) rfl (Nat.le_of_ble_eq_true rfl) dX1_field_7 hf) (fun E9 ce9 q9 h9 H locs hx9 => False.elim hx9) (fun v9 h4 H locs hv9 hH hB => ?_)
  obtain ⟨z3, rfl, hF⟩ := hv9
  exact zc_iret X hH hB rfl rfl ⟨_, rfl, hF⟩ dX1_field_10
set_option maxHeartbeats 4000000 in
set_option maxRecDepth 100000 in
theorem wc_X1_row {l : Launch} {D : va_G} {cA : Nat → ClassId} {P : Nat → Prop} {G : Nat × Nat × Nat} {o : Nat} {Q : Int32 → ZH → Prop} {h : ZH} {C S : Nat} {v1 : Int32} {v2 : Int32} {v3 : Int32} (hl9 : l.stackTraces = false) (hF : fc_X1_row G o Q h C S v1 v2 v3) :
    zc_M l yX1_row (ws_ yX1_row cX1_row 4 (some .int)) 14 D cA P G [.ref o, .int v1, .int v2, .int v3] h C S (fun v h' => ∃ z : Int32, v = some (.int z) ∧ Q z h') zc_no := by
  refine zc_ofF hl9 rfl (by decide +kernel) (Nat.le_of_ble_eq_true rfl) ?_
  intro p e s m args below meth c H locs ls X hN hT hH hl
  have hx := X.1
  have hb := X.2.1
  have hown := X.2.2.2.1
  have hts := X.2.2.2.2.1
  have hl : lv_has ls 4 [(0, .ref o), (1, .int v1), (2, .int v2), (3, .int v3)] := hl
  have hB : 0 + C ≤ C ∧ 0 + S ≤ S := ⟨by omega, by omega⟩
  unfold fc_X1_row at hF
  refine lv_aload_n hx hb dX1_row_0 rfl (lv_at hl 0 rfl) ?_
  refine lv_iconst (v := 2) hx hb dX1_row_1 (by decide) ?_
  refine lv_iload_n hx hb dX1_row_2 rfl (lv_at hl 1 rfl) ?_
  refine lv_iload_n hx hb dX1_row_3 rfl (lv_at hl 2 rfl) ?_
  refine lv_iload_n hx hb dX1_row_4 rfl (lv_at hl 3 rfl) ?_
  refine lv_iconst (v := 0) hx hb dX1_row_5 (by decide) ?_
  refine lv_iconst (v := 0) hx hb dX1_row_6 (by decide) ?_
  obtain ⟨hc, hF⟩ := hF
  obtain ⟨c1, s2, hc1, hs1, hF⟩ := hF
  refine zc_call (c1 := c1) (s1 := s2) (rest := []) hH hB hc1 hs1 (fun hf => zc_rVW X hH hc (by decide) rfl (As := [.int 2, .int v1, .int v2, .int v3, .int 0, .int 0]) (wc_X1_does X.2.2.2.2.2.2.2.1 hF) (lw_VW q1449 q1451 qs23 q87 q1452) ⟨rfl, by decide, by decide, rfl⟩ ⟨Nat.le_of_ble_eq_true rfl, Nat.le_of_ble_eq_true rfl, Nat.le_of_ble_eq_true rfl⟩ rfl hl.1 (st0 := [.int 0, .int 0, .int v3, .int v2, .int v1, .int 2, .ref o]) rfl (Nat.le_of_ble_eq_true rfl) dX1_row_7 hf) (fun E9 ce9 q9 h9 H locs hx9 => False.elim hx9) (fun v9 h4 H locs hv9 hH hB => ?_)
  obtain ⟨z3, rfl, hF⟩ := hv9
  exact zc_iret X hH hB rfl rfl ⟨_, rfl, hF⟩ dX1_row_10
set_option maxHeartbeats 4000000 in
set_option maxRecDepth 100000 in
theorem wc_X1_tear {l : Launch} {D : va_G} {cA : Nat → ClassId} {P : Nat → Prop} {G : Nat × Nat × Nat} {o : Nat} {Q : Int32 → ZH → Prop} {h : ZH} {C S : Nat} {v1 : Int32} {v2 : Int32} (hl9 : l.stackTraces = false) (hF : fc_X1_tear G o Q h C S v1 v2) :
    zc_M l yX1_tear (ws_ yX1_tear cX1_tear 3 (some .int)) 14 D cA P G [.ref o, .int v1, .int v2] h C S (fun v h' => ∃ z : Int32, v = some (.int z) ∧ Q z h') zc_no := by
  refine zc_ofF hl9 rfl (by decide +kernel) (Nat.le_of_ble_eq_true rfl) ?_
  intro p e s m args below meth c H locs ls X hN hT hH hl
  have hx := X.1
  have hb := X.2.1
  have hown := X.2.2.2.1
  have hts := X.2.2.2.2.1
  have hl : lv_has ls 3 [(0, .ref o), (1, .int v1), (2, .int v2)] := hl
  have hB : 0 + C ≤ C ∧ 0 + S ≤ S := ⟨by omega, by omega⟩
  unfold fc_X1_tear at hF
  refine lv_aload_n hx hb dX1_tear_0 rfl (lv_at hl 0 rfl) ?_
  refine lv_iconst (v := 3) hx hb dX1_tear_1 (by decide) ?_
  refine lv_iload_n hx hb dX1_tear_2 rfl (lv_at hl 1 rfl) ?_
  refine lv_iload_n hx hb dX1_tear_3 rfl (lv_at hl 2 rfl) ?_
  refine lv_iconst (v := 0) hx hb dX1_tear_4 (by decide) ?_
  refine lv_iconst (v := 0) hx hb dX1_tear_5 (by decide) ?_
  refine lv_iconst (v := 0) hx hb dX1_tear_6 (by decide) ?_
  obtain ⟨hc, hF⟩ := hF
  obtain ⟨c1, s2, hc1, hs1, hF⟩ := hF
  refine zc_call (c1 := c1) (s1 := s2) (rest := []) hH hB hc1 hs1 (fun hf => zc_rVW X hH hc (by decide) rfl (As := [.int 3, .int v1, .int v2, .int 0, .int 0, .int 0]) (wc_X1_does X.2.2.2.2.2.2.2.1 hF) (lw_VW q1449 q1451 qs23 q87 q1452) ⟨rfl, by decide, by decide, rfl⟩ ⟨Nat.le_of_ble_eq_true rfl, Nat.le_of_ble_eq_true rfl, Nat.le_of_ble_eq_true rfl⟩ rfl hl.1 (st0 := [.int 0, .int 0, .int 0, .int v2, .int v1, .int 3, .ref o]) rfl (Nat.le_of_ble_eq_true rfl) dX1_tear_7 hf) (fun E9 ce9 q9 h9 H locs hx9 => False.elim hx9) (fun v9 h4 H locs hv9 hH hB => ?_)
  obtain ⟨z3, rfl, hF⟩ := hv9
  exact zc_iret X hH hB rfl rfl ⟨_, rfl, hF⟩ dX1_tear_10
set_option maxHeartbeats 4000000 in
set_option maxRecDepth 100000 in
theorem wc_X1_place {l : Launch} {D : va_G} {cA : Nat → ClassId} {P : Nat → Prop} {G : Nat × Nat × Nat} {o : Nat} {Q : Int32 → ZH → Prop} {h : ZH} {C S : Nat} {v1 : Int32} {v2 : Int32} {v3 : Int32} {v4 : Int32} (hl9 : l.stackTraces = false) (hF : fc_X1_place G o Q h C S v1 v2 v3 v4) :
    zc_M l yX1_place (ws_ yX1_place cX1_place 5 (some .int)) 14 D cA P G [.ref o, .int v1, .int v2, .int v3, .int v4] h C S (fun v h' => ∃ z : Int32, v = some (.int z) ∧ Q z h') zc_no := by
  refine zc_ofF hl9 rfl (by decide +kernel) (Nat.le_of_ble_eq_true rfl) ?_
  intro p e s m args below meth c H locs ls X hN hT hH hl
  have hx := X.1
  have hb := X.2.1
  have hown := X.2.2.2.1
  have hts := X.2.2.2.2.1
  have hl : lv_has ls 5 [(0, .ref o), (1, .int v1), (2, .int v2), (3, .int v3), (4, .int v4)] := hl
  have hB : 0 + C ≤ C ∧ 0 + S ≤ S := ⟨by omega, by omega⟩
  unfold fc_X1_place at hF
  refine lv_aload_n hx hb dX1_place_0 rfl (lv_at hl 0 rfl) ?_
  refine lv_iconst (v := 4) hx hb dX1_place_1 (by decide) ?_
  refine lv_iload_n hx hb dX1_place_2 rfl (lv_at hl 1 rfl) ?_
  refine lv_iload_n hx hb dX1_place_3 rfl (lv_at hl 2 rfl) ?_
  refine lv_iload_n hx hb dX1_place_4 rfl (lv_at hl 3 rfl) ?_
  refine lv_iload hx hb dX1_place_5 (lv_at hl 4 rfl) ?_
  refine lv_iconst (v := 0) hx hb dX1_place_7 (by decide) ?_
  obtain ⟨hc, hF⟩ := hF
  obtain ⟨c1, s2, hc1, hs1, hF⟩ := hF
  refine zc_call (c1 := c1) (s1 := s2) (rest := []) hH hB hc1 hs1 (fun hf => zc_rVW X hH hc (by decide) rfl (As := [.int 4, .int v1, .int v2, .int v3, .int v4, .int 0]) (wc_X1_does X.2.2.2.2.2.2.2.1 hF) (lw_VW q1449 q1451 qs23 q87 q1452) ⟨rfl, by decide, by decide, rfl⟩ ⟨Nat.le_of_ble_eq_true rfl, Nat.le_of_ble_eq_true rfl, Nat.le_of_ble_eq_true rfl⟩ rfl hl.1 (st0 := [.int 0, .int v4, .int v3, .int v2, .int v1, .int 4, .ref o]) rfl (Nat.le_of_ble_eq_true rfl) dX1_place_8 hf) (fun E9 ce9 q9 h9 H locs hx9 => False.elim hx9) (fun v9 h4 H locs hv9 hH hB => ?_)
  obtain ⟨z3, rfl, hF⟩ := hv9
  exact zc_iret X hH hB rfl rfl ⟨_, rfl, hF⟩ dX1_place_11
set_option maxHeartbeats 4000000 in
set_option maxRecDepth 100000 in
theorem wc_X1_grave {l : Launch} {D : va_G} {cA : Nat → ClassId} {P : Nat → Prop} {G : Nat × Nat × Nat} {o : Nat} {Q : Int32 → ZH → Prop} {h : ZH} {C S : Nat} {v1 : Int32} {v2 : Int32} {v3 : Int32} {v4 : Int32} {v5 : Int32} (hl9 : l.stackTraces = false) (hF : fc_X1_grave G o Q h C S v1 v2 v3 v4 v5) :
    zc_M l yX1_grave (ws_ yX1_grave cX1_grave 6 (some .int)) 14 D cA P G [.ref o, .int v1, .int v2, .int v3, .int v4, .int v5] h C S (fun v h' => ∃ z : Int32, v = some (.int z) ∧ Q z h') zc_no := by
  refine zc_ofF hl9 rfl (by decide +kernel) (Nat.le_of_ble_eq_true rfl) ?_
  intro p e s m args below meth c H locs ls X hN hT hH hl
  have hx := X.1
  have hb := X.2.1
  have hown := X.2.2.2.1
  have hts := X.2.2.2.2.1
  have hl : lv_has ls 6 [(0, .ref o), (1, .int v1), (2, .int v2), (3, .int v3), (4, .int v4), (5, .int v5)] := hl
  have hB : 0 + C ≤ C ∧ 0 + S ≤ S := ⟨by omega, by omega⟩
  unfold fc_X1_grave at hF
  refine lv_aload_n hx hb dX1_grave_0 rfl (lv_at hl 0 rfl) ?_
  refine lv_iconst (v := 5) hx hb dX1_grave_1 (by decide) ?_
  refine lv_iload_n hx hb dX1_grave_2 rfl (lv_at hl 1 rfl) ?_
  refine lv_iload_n hx hb dX1_grave_3 rfl (lv_at hl 2 rfl) ?_
  refine lv_iload_n hx hb dX1_grave_4 rfl (lv_at hl 3 rfl) ?_
  refine lv_iload hx hb dX1_grave_5 (lv_at hl 4 rfl) ?_
  refine lv_iload hx hb dX1_grave_7 (lv_at hl 5 rfl) ?_
  obtain ⟨hc, hF⟩ := hF
  obtain ⟨c1, s2, hc1, hs1, hF⟩ := hF
  refine zc_call (c1 := c1) (s1 := s2) (rest := []) hH hB hc1 hs1 (fun hf => zc_rVW X hH hc (by decide) rfl (As := [.int 5, .int v1, .int v2, .int v3, .int v4, .int v5]) (wc_X1_does X.2.2.2.2.2.2.2.1 hF) (lw_VW q1449 q1451 qs23 q87 q1452) ⟨rfl, by decide, by decide, rfl⟩ ⟨Nat.le_of_ble_eq_true rfl, Nat.le_of_ble_eq_true rfl, Nat.le_of_ble_eq_true rfl⟩ rfl hl.1 (st0 := [.int v5, .int v4, .int v3, .int v2, .int v1, .int 5, .ref o]) rfl (Nat.le_of_ble_eq_true rfl) dX1_grave_9 hf) (fun E9 ce9 q9 h9 H locs hx9 => False.elim hx9) (fun v9 h4 H locs hv9 hH hB => ?_)
  obtain ⟨z3, rfl, hF⟩ := hv9
  exact zc_iret X hH hB rfl rfl ⟨_, rfl, hF⟩ dX1_grave_12
set_option maxHeartbeats 4000000 in
set_option maxRecDepth 100000 in
theorem wc_X1_person {l : Launch} {D : va_G} {cA : Nat → ClassId} {P : Nat → Prop} {G : Nat × Nat × Nat} {o : Nat} {Q : Int32 → ZH → Prop} {h : ZH} {C S : Nat} {v1 : Int32} (hl9 : l.stackTraces = false) (hF : fc_X1_person G o Q h C S v1) :
    zc_M l yX1_person (ws_ yX1_person cX1_person 2 (some .int)) 14 D cA P G [.ref o, .int v1] h C S (fun v h' => ∃ z : Int32, v = some (.int z) ∧ Q z h') zc_no := by
  refine zc_ofF hl9 rfl (by decide +kernel) (Nat.le_of_ble_eq_true rfl) ?_
  intro p e s m args below meth c H locs ls X hN hT hH hl
  have hx := X.1
  have hb := X.2.1
  have hown := X.2.2.2.1
  have hts := X.2.2.2.2.1
  have hl : lv_has ls 2 [(0, .ref o), (1, .int v1)] := hl
  have hB : 0 + C ≤ C ∧ 0 + S ≤ S := ⟨by omega, by omega⟩
  unfold fc_X1_person at hF
  refine lv_aload_n hx hb dX1_person_0 rfl (lv_at hl 0 rfl) ?_
  refine lv_bipush (v := 6) hx hb dX1_person_1 (by decide) ?_
  refine lv_iload_n hx hb dX1_person_3 rfl (lv_at hl 1 rfl) ?_
  refine lv_iconst (v := 0) hx hb dX1_person_4 (by decide) ?_
  refine lv_iconst (v := 0) hx hb dX1_person_5 (by decide) ?_
  refine lv_iconst (v := 0) hx hb dX1_person_6 (by decide) ?_
  refine lv_iconst (v := 0) hx hb dX1_person_7 (by decide) ?_
  obtain ⟨hc, hF⟩ := hF
  obtain ⟨c1, s2, hc1, hs1, hF⟩ := hF
  refine zc_call (c1 := c1) (s1 := s2) (rest := []) hH hB hc1 hs1 (fun hf => zc_rVW X hH hc (by decide) rfl (As := [.int 6, .int v1, .int 0, .int 0, .int 0, .int 0]) (wc_X1_does X.2.2.2.2.2.2.2.1 hF) (lw_VW q1449 q1451 qs23 q87 q1452) ⟨rfl, by decide, by decide, rfl⟩ ⟨Nat.le_of_ble_eq_true rfl, Nat.le_of_ble_eq_true rfl, Nat.le_of_ble_eq_true rfl⟩ rfl hl.1 (st0 := [.int 0, .int 0, .int 0, .int 0, .int v1, .int 6, .ref o]) rfl (Nat.le_of_ble_eq_true rfl) dX1_person_8 hf) (fun E9 ce9 q9 h9 H locs hx9 => False.elim hx9) (fun v9 h4 H locs hv9 hH hB => ?_)
  obtain ⟨z3, rfl, hF⟩ := hv9
  exact zc_iret X hH hB rfl rfl ⟨_, rfl, hF⟩ dX1_person_11
set_option maxHeartbeats 4000000 in
set_option maxRecDepth 100000 in
theorem wc_X1_kin {l : Launch} {D : va_G} {cA : Nat → ClassId} {P : Nat → Prop} {G : Nat × Nat × Nat} {o : Nat} {Q : Int32 → ZH → Prop} {h : ZH} {C S : Nat} {v1 : Int32} {v2 : Int32} {v3 : Int32} (hl9 : l.stackTraces = false) (hF : fc_X1_kin G o Q h C S v1 v2 v3) :
    zc_M l yX1_kin (ws_ yX1_kin cX1_kin 4 (some .int)) 14 D cA P G [.ref o, .int v1, .int v2, .int v3] h C S (fun v h' => ∃ z : Int32, v = some (.int z) ∧ Q z h') zc_no := by
  refine zc_ofF hl9 rfl (by decide +kernel) (Nat.le_of_ble_eq_true rfl) ?_
  intro p e s m args below meth c H locs ls X hN hT hH hl
  have hx := X.1
  have hb := X.2.1
  have hown := X.2.2.2.1
  have hts := X.2.2.2.2.1
  have hl : lv_has ls 4 [(0, .ref o), (1, .int v1), (2, .int v2), (3, .int v3)] := hl
  have hB : 0 + C ≤ C ∧ 0 + S ≤ S := ⟨by omega, by omega⟩
  unfold fc_X1_kin at hF
  refine lv_aload_n hx hb dX1_kin_0 rfl (lv_at hl 0 rfl) ?_
  refine lv_bipush (v := 7) hx hb dX1_kin_1 (by decide) ?_
  refine lv_iload_n hx hb dX1_kin_3 rfl (lv_at hl 1 rfl) ?_
  refine lv_iload_n hx hb dX1_kin_4 rfl (lv_at hl 2 rfl) ?_
  refine lv_iload_n hx hb dX1_kin_5 rfl (lv_at hl 3 rfl) ?_
  refine lv_iconst (v := 0) hx hb dX1_kin_6 (by decide) ?_
  refine lv_iconst (v := 0) hx hb dX1_kin_7 (by decide) ?_
  obtain ⟨hc, hF⟩ := hF
  obtain ⟨c1, s2, hc1, hs1, hF⟩ := hF
  refine zc_call (c1 := c1) (s1 := s2) (rest := []) hH hB hc1 hs1 (fun hf => zc_rVW X hH hc (by decide) rfl (As := [.int 7, .int v1, .int v2, .int v3, .int 0, .int 0]) (wc_X1_does X.2.2.2.2.2.2.2.1 hF) (lw_VW q1449 q1451 qs23 q87 q1452) ⟨rfl, by decide, by decide, rfl⟩ ⟨Nat.le_of_ble_eq_true rfl, Nat.le_of_ble_eq_true rfl, Nat.le_of_ble_eq_true rfl⟩ rfl hl.1 (st0 := [.int 0, .int 0, .int v3, .int v2, .int v1, .int 7, .ref o]) rfl (Nat.le_of_ble_eq_true rfl) dX1_kin_8 hf) (fun E9 ce9 q9 h9 H locs hx9 => False.elim hx9) (fun v9 h4 H locs hv9 hH hB => ?_)
  obtain ⟨z3, rfl, hF⟩ := hv9
  exact zc_iret X hH hB rfl rfl ⟨_, rfl, hF⟩ dX1_kin_11
set_option maxHeartbeats 4000000 in
set_option maxRecDepth 100000 in
theorem wc_X1_paper {l : Launch} {D : va_G} {cA : Nat → ClassId} {P : Nat → Prop} {G : Nat × Nat × Nat} {o : Nat} {Q : Int32 → ZH → Prop} {h : ZH} {C S : Nat} {v1 : Int32} {v2 : Int32} (hl9 : l.stackTraces = false) (hF : fc_X1_paper G o Q h C S v1 v2) :
    zc_M l yX1_paper (ws_ yX1_paper cX1_paper 3 (some .int)) 14 D cA P G [.ref o, .int v1, .int v2] h C S (fun v h' => ∃ z : Int32, v = some (.int z) ∧ Q z h') zc_no := by
  refine zc_ofF hl9 rfl (by decide +kernel) (Nat.le_of_ble_eq_true rfl) ?_
  intro p e s m args below meth c H locs ls X hN hT hH hl
  have hx := X.1
  have hb := X.2.1
  have hown := X.2.2.2.1
  have hts := X.2.2.2.2.1
  have hl : lv_has ls 3 [(0, .ref o), (1, .int v1), (2, .int v2)] := hl
  have hB : 0 + C ≤ C ∧ 0 + S ≤ S := ⟨by omega, by omega⟩
  unfold fc_X1_paper at hF
  refine lv_aload_n hx hb dX1_paper_0 rfl (lv_at hl 0 rfl) ?_
  refine lv_bipush (v := 8) hx hb dX1_paper_1 (by decide) ?_
  refine lv_iload_n hx hb dX1_paper_3 rfl (lv_at hl 1 rfl) ?_
  refine lv_iload_n hx hb dX1_paper_4 rfl (lv_at hl 2 rfl) ?_
  refine lv_iconst (v := 0) hx hb dX1_paper_5 (by decide) ?_
  refine lv_iconst (v := 0) hx hb dX1_paper_6 (by decide) ?_
  refine lv_iconst (v := 0) hx hb dX1_paper_7 (by decide) ?_
  obtain ⟨hc, hF⟩ := hF
  obtain ⟨c1, s2, hc1, hs1, hF⟩ := hF
  refine zc_call (c1 := c1) (s1 := s2) (rest := []) hH hB hc1 hs1 (fun hf => zc_rVW X hH hc (by decide) rfl (As := [.int 8, .int v1, .int v2, .int 0, .int 0, .int 0]) (wc_X1_does X.2.2.2.2.2.2.2.1 hF) (lw_VW q1449 q1451 qs23 q87 q1452) ⟨rfl, by decide, by decide, rfl⟩ ⟨Nat.le_of_ble_eq_true rfl, Nat.le_of_ble_eq_true rfl, Nat.le_of_ble_eq_true rfl⟩ rfl hl.1 (st0 := [.int 0, .int 0, .int 0, .int v2, .int v1, .int 8, .ref o]) rfl (Nat.le_of_ble_eq_true rfl) dX1_paper_8 hf) (fun E9 ce9 q9 h9 H locs hx9 => False.elim hx9) (fun v9 h4 H locs hv9 hH hB => ?_)
  obtain ⟨z3, rfl, hF⟩ := hv9
  exact zc_iret X hH hB rfl rfl ⟨_, rfl, hF⟩ dX1_paper_11
set_option maxHeartbeats 4000000 in
set_option maxRecDepth 100000 in
theorem wc_X1_right {l : Launch} {D : va_G} {cA : Nat → ClassId} {P : Nat → Prop} {G : Nat × Nat × Nat} {o : Nat} {Q : Int32 → ZH → Prop} {h : ZH} {C S : Nat} {v1 : Int32} {v2 : Int32} {v3 : Int32} (hl9 : l.stackTraces = false) (hF : fc_X1_right G o Q h C S v1 v2 v3) :
    zc_M l yX1_right (ws_ yX1_right cX1_right 4 (some .int)) 14 D cA P G [.ref o, .int v1, .int v2, .int v3] h C S (fun v h' => ∃ z : Int32, v = some (.int z) ∧ Q z h') zc_no := by
  refine zc_ofF hl9 rfl (by decide +kernel) (Nat.le_of_ble_eq_true rfl) ?_
  intro p e s m args below meth c H locs ls X hN hT hH hl
  have hx := X.1
  have hb := X.2.1
  have hown := X.2.2.2.1
  have hts := X.2.2.2.2.1
  have hl : lv_has ls 4 [(0, .ref o), (1, .int v1), (2, .int v2), (3, .int v3)] := hl
  have hB : 0 + C ≤ C ∧ 0 + S ≤ S := ⟨by omega, by omega⟩
  unfold fc_X1_right at hF
  refine lv_aload_n hx hb dX1_right_0 rfl (lv_at hl 0 rfl) ?_
  refine lv_bipush (v := 9) hx hb dX1_right_1 (by decide) ?_
  refine lv_iload_n hx hb dX1_right_3 rfl (lv_at hl 1 rfl) ?_
  refine lv_iload_n hx hb dX1_right_4 rfl (lv_at hl 2 rfl) ?_
  refine lv_iload_n hx hb dX1_right_5 rfl (lv_at hl 3 rfl) ?_
  refine lv_iconst (v := 0) hx hb dX1_right_6 (by decide) ?_
  refine lv_iconst (v := 0) hx hb dX1_right_7 (by decide) ?_
  obtain ⟨hc, hF⟩ := hF
  obtain ⟨c1, s2, hc1, hs1, hF⟩ := hF
  refine zc_call (c1 := c1) (s1 := s2) (rest := []) hH hB hc1 hs1 (fun hf => zc_rVW X hH hc (by decide) rfl (As := [.int 9, .int v1, .int v2, .int v3, .int 0, .int 0]) (wc_X1_does X.2.2.2.2.2.2.2.1 hF) (lw_VW q1449 q1451 qs23 q87 q1452) ⟨rfl, by decide, by decide, rfl⟩ ⟨Nat.le_of_ble_eq_true rfl, Nat.le_of_ble_eq_true rfl, Nat.le_of_ble_eq_true rfl⟩ rfl hl.1 (st0 := [.int 0, .int 0, .int v3, .int v2, .int v1, .int 9, .ref o]) rfl (Nat.le_of_ble_eq_true rfl) dX1_right_8 hf) (fun E9 ce9 q9 h9 H locs hx9 => False.elim hx9) (fun v9 h4 H locs hv9 hH hB => ?_)
  obtain ⟨z3, rfl, hF⟩ := hv9
  exact zc_iret X hH hB rfl rfl ⟨_, rfl, hF⟩ dX1_right_11
set_option maxHeartbeats 4000000 in
set_option maxRecDepth 100000 in
theorem wc_X1_longer {l : Launch} {D : va_G} {cA : Nat → ClassId} {P : Nat → Prop} {G : Nat × Nat × Nat} {o : Nat} {Q : Int32 → ZH → Prop} {h : ZH} {C S : Nat} {v1 : Int32} {v2 : Int32} (hl9 : l.stackTraces = false) (hF : fc_X1_longer G o Q h C S v1 v2) :
    zc_M l yX1_longer (ws_ yX1_longer cX1_longer 3 (some .int)) 14 D cA P G [.ref o, .int v1, .int v2] h C S (fun v h' => ∃ z : Int32, v = some (.int z) ∧ Q z h') zc_no := by
  refine zc_ofF hl9 rfl (by decide +kernel) (Nat.le_of_ble_eq_true rfl) ?_
  intro p e s m args below meth c H locs ls X hN hT hH hl
  have hx := X.1
  have hb := X.2.1
  have hown := X.2.2.2.1
  have hts := X.2.2.2.2.1
  have hl : lv_has ls 3 [(0, .ref o), (1, .int v1), (2, .int v2)] := hl
  have hB : 0 + C ≤ C ∧ 0 + S ≤ S := ⟨by omega, by omega⟩
  unfold fc_X1_longer at hF
  refine lv_aload_n hx hb dX1_longer_0 rfl (lv_at hl 0 rfl) ?_
  refine lv_bipush (v := 10) hx hb dX1_longer_1 (by decide) ?_
  refine lv_iload_n hx hb dX1_longer_3 rfl (lv_at hl 1 rfl) ?_
  refine lv_iload_n hx hb dX1_longer_4 rfl (lv_at hl 2 rfl) ?_
  refine lv_iconst (v := 0) hx hb dX1_longer_5 (by decide) ?_
  refine lv_iconst (v := 0) hx hb dX1_longer_6 (by decide) ?_
  refine lv_iconst (v := 0) hx hb dX1_longer_7 (by decide) ?_
  obtain ⟨hc, hF⟩ := hF
  obtain ⟨c1, s2, hc1, hs1, hF⟩ := hF
  refine zc_call (c1 := c1) (s1 := s2) (rest := []) hH hB hc1 hs1 (fun hf => zc_rVW X hH hc (by decide) rfl (As := [.int 10, .int v1, .int v2, .int 0, .int 0, .int 0]) (wc_X1_does X.2.2.2.2.2.2.2.1 hF) (lw_VW q1449 q1451 qs23 q87 q1452) ⟨rfl, by decide, by decide, rfl⟩ ⟨Nat.le_of_ble_eq_true rfl, Nat.le_of_ble_eq_true rfl, Nat.le_of_ble_eq_true rfl⟩ rfl hl.1 (st0 := [.int 0, .int 0, .int 0, .int v2, .int v1, .int 10, .ref o]) rfl (Nat.le_of_ble_eq_true rfl) dX1_longer_8 hf) (fun E9 ce9 q9 h9 H locs hx9 => False.elim hx9) (fun v9 h4 H locs hv9 hH hB => ?_)
  obtain ⟨z3, rfl, hF⟩ := hv9
  exact zc_iret X hH hB rfl rfl ⟨_, rfl, hF⟩ dX1_longer_11
set_option maxHeartbeats 4000000 in
set_option maxRecDepth 100000 in
theorem wc_X1_agree {l : Launch} {D : va_G} {cA : Nat → ClassId} {P : Nat → Prop} {G : Nat × Nat × Nat} {o : Nat} {Q : Int32 → ZH → Prop} {h : ZH} {C S : Nat} {v1 : Int32} {v2 : Int32} {v3 : Int32} (hl9 : l.stackTraces = false) (hF : fc_X1_agree G o Q h C S v1 v2 v3) :
    zc_M l yX1_agree (ws_ yX1_agree cX1_agree 4 (some .int)) 14 D cA P G [.ref o, .int v1, .int v2, .int v3] h C S (fun v h' => ∃ z : Int32, v = some (.int z) ∧ Q z h') zc_no := by
  refine zc_ofF hl9 rfl (by decide +kernel) (Nat.le_of_ble_eq_true rfl) ?_
  intro p e s m args below meth c H locs ls X hN hT hH hl
  have hx := X.1
  have hb := X.2.1
  have hown := X.2.2.2.1
  have hts := X.2.2.2.2.1
  have hl : lv_has ls 4 [(0, .ref o), (1, .int v1), (2, .int v2), (3, .int v3)] := hl
  have hB : 0 + C ≤ C ∧ 0 + S ≤ S := ⟨by omega, by omega⟩
  unfold fc_X1_agree at hF
  refine lv_aload_n hx hb dX1_agree_0 rfl (lv_at hl 0 rfl) ?_
  refine lv_bipush (v := 11) hx hb dX1_agree_1 (by decide) ?_
  refine lv_iload_n hx hb dX1_agree_3 rfl (lv_at hl 1 rfl) ?_
  refine lv_iload_n hx hb dX1_agree_4 rfl (lv_at hl 2 rfl) ?_
  refine lv_iload_n hx hb dX1_agree_5 rfl (lv_at hl 3 rfl) ?_
  refine lv_iconst (v := 0) hx hb dX1_agree_6 (by decide) ?_
  refine lv_iconst (v := 0) hx hb dX1_agree_7 (by decide) ?_
  obtain ⟨hc, hF⟩ := hF
  obtain ⟨c1, s2, hc1, hs1, hF⟩ := hF
  refine zc_call (c1 := c1) (s1 := s2) (rest := []) hH hB hc1 hs1 (fun hf => zc_rVW X hH hc (by decide) rfl (As := [.int 11, .int v1, .int v2, .int v3, .int 0, .int 0]) (wc_X1_does X.2.2.2.2.2.2.2.1 hF) (lw_VW q1449 q1451 qs23 q87 q1452) ⟨rfl, by decide, by decide, rfl⟩ ⟨Nat.le_of_ble_eq_true rfl, Nat.le_of_ble_eq_true rfl, Nat.le_of_ble_eq_true rfl⟩ rfl hl.1 (st0 := [.int 0, .int 0, .int v3, .int v2, .int v1, .int 11, .ref o]) rfl (Nat.le_of_ble_eq_true rfl) dX1_agree_8 hf) (fun E9 ce9 q9 h9 H locs hx9 => False.elim hx9) (fun v9 h4 H locs hv9 hH hB => ?_)
  obtain ⟨z3, rfl, hF⟩ := hv9
  exact zc_iret X hH hB rfl rfl ⟨_, rfl, hF⟩ dX1_agree_11
set_option maxHeartbeats 4000000 in
set_option maxRecDepth 100000 in
theorem wc_X1_dies {l : Launch} {D : va_G} {cA : Nat → ClassId} {P : Nat → Prop} {G : Nat × Nat × Nat} {o : Nat} {Q : Int32 → ZH → Prop} {h : ZH} {C S : Nat} {v1 : Int32} (hl9 : l.stackTraces = false) (hF : fc_X1_dies G o Q h C S v1) :
    zc_M l yX1_dies (ws_ yX1_dies cX1_dies 2 (some .int)) 14 D cA P G [.ref o, .int v1] h C S (fun v h' => ∃ z : Int32, v = some (.int z) ∧ Q z h') zc_no := by
  refine zc_ofF hl9 rfl (by decide +kernel) (Nat.le_of_ble_eq_true rfl) ?_
  intro p e s m args below meth c H locs ls X hN hT hH hl
  have hx := X.1
  have hb := X.2.1
  have hown := X.2.2.2.1
  have hts := X.2.2.2.2.1
  have hl : lv_has ls 2 [(0, .ref o), (1, .int v1)] := hl
  have hB : 0 + C ≤ C ∧ 0 + S ≤ S := ⟨by omega, by omega⟩
  unfold fc_X1_dies at hF
  refine lv_aload_n hx hb dX1_dies_0 rfl (lv_at hl 0 rfl) ?_
  refine lv_bipush (v := 12) hx hb dX1_dies_1 (by decide) ?_
  refine lv_iload_n hx hb dX1_dies_3 rfl (lv_at hl 1 rfl) ?_
  refine lv_iconst (v := 0) hx hb dX1_dies_4 (by decide) ?_
  refine lv_iconst (v := 0) hx hb dX1_dies_5 (by decide) ?_
  refine lv_iconst (v := 0) hx hb dX1_dies_6 (by decide) ?_
  refine lv_iconst (v := 0) hx hb dX1_dies_7 (by decide) ?_
  obtain ⟨hc, hF⟩ := hF
  obtain ⟨c1, s2, hc1, hs1, hF⟩ := hF
  refine zc_call (c1 := c1) (s1 := s2) (rest := []) hH hB hc1 hs1 (fun hf => zc_rVW X hH hc (by decide) rfl (As := [.int 12, .int v1, .int 0, .int 0, .int 0, .int 0]) (wc_X1_does X.2.2.2.2.2.2.2.1 hF) (lw_VW q1449 q1451 qs23 q87 q1452) ⟨rfl, by decide, by decide, rfl⟩ ⟨Nat.le_of_ble_eq_true rfl, Nat.le_of_ble_eq_true rfl, Nat.le_of_ble_eq_true rfl⟩ rfl hl.1 (st0 := [.int 0, .int 0, .int 0, .int 0, .int v1, .int 12, .ref o]) rfl (Nat.le_of_ble_eq_true rfl) dX1_dies_8 hf) (fun E9 ce9 q9 h9 H locs hx9 => False.elim hx9) (fun v9 h4 H locs hv9 hH hB => ?_)
  obtain ⟨z3, rfl, hF⟩ := hv9
  exact zc_iret X hH hB rfl rfl ⟨_, rfl, hF⟩ dX1_dies_11
set_option maxHeartbeats 4000000 in
set_option maxRecDepth 100000 in
theorem wc_X1_takes {l : Launch} {D : va_G} {cA : Nat → ClassId} {P : Nat → Prop} {G : Nat × Nat × Nat} {o : Nat} {Q : Int32 → ZH → Prop} {h : ZH} {C S : Nat} {v1 : Int32} (hl9 : l.stackTraces = false) (hF : fc_X1_takes G o Q h C S v1) :
    zc_M l yX1_takes (ws_ yX1_takes cX1_takes 2 (some .int)) 14 D cA P G [.ref o, .int v1] h C S (fun v h' => ∃ z : Int32, v = some (.int z) ∧ Q z h') zc_no := by
  refine zc_ofF hl9 rfl (by decide +kernel) (Nat.le_of_ble_eq_true rfl) ?_
  intro p e s m args below meth c H locs ls X hN hT hH hl
  have hx := X.1
  have hb := X.2.1
  have hown := X.2.2.2.1
  have hts := X.2.2.2.2.1
  have hl : lv_has ls 2 [(0, .ref o), (1, .int v1)] := hl
  have hB : 0 + C ≤ C ∧ 0 + S ≤ S := ⟨by omega, by omega⟩
  unfold fc_X1_takes at hF
  refine lv_aload_n hx hb dX1_takes_0 rfl (lv_at hl 0 rfl) ?_
  refine lv_bipush (v := 13) hx hb dX1_takes_1 (by decide) ?_
  refine lv_iload_n hx hb dX1_takes_3 rfl (lv_at hl 1 rfl) ?_
  refine lv_iconst (v := 0) hx hb dX1_takes_4 (by decide) ?_
  refine lv_iconst (v := 0) hx hb dX1_takes_5 (by decide) ?_
  refine lv_iconst (v := 0) hx hb dX1_takes_6 (by decide) ?_
  refine lv_iconst (v := 0) hx hb dX1_takes_7 (by decide) ?_
  obtain ⟨hc, hF⟩ := hF
  obtain ⟨c1, s2, hc1, hs1, hF⟩ := hF
  refine zc_call (c1 := c1) (s1 := s2) (rest := []) hH hB hc1 hs1 (fun hf => zc_rVW X hH hc (by decide) rfl (As := [.int 13, .int v1, .int 0, .int 0, .int 0, .int 0]) (wc_X1_does X.2.2.2.2.2.2.2.1 hF) (lw_VW q1449 q1451 qs23 q87 q1452) ⟨rfl, by decide, by decide, rfl⟩ ⟨Nat.le_of_ble_eq_true rfl, Nat.le_of_ble_eq_true rfl, Nat.le_of_ble_eq_true rfl⟩ rfl hl.1 (st0 := [.int 0, .int 0, .int 0, .int 0, .int v1, .int 13, .ref o]) rfl (Nat.le_of_ble_eq_true rfl) dX1_takes_8 hf) (fun E9 ce9 q9 h9 H locs hx9 => False.elim hx9) (fun v9 h4 H locs hv9 hH hB => ?_)
  obtain ⟨z3, rfl, hF⟩ := hv9
  exact zc_iret X hH hB rfl rfl ⟨_, rfl, hF⟩ dX1_takes_11
set_option maxHeartbeats 4000000 in
set_option maxRecDepth 100000 in
theorem wc_X1_refuses {l : Launch} {D : va_G} {cA : Nat → ClassId} {P : Nat → Prop} {G : Nat × Nat × Nat} {o : Nat} {Q : Int32 → ZH → Prop} {h : ZH} {C S : Nat} {v1 : Int32} (hl9 : l.stackTraces = false) (hF : fc_X1_refuses G o Q h C S v1) :
    zc_M l yX1_refuses (ws_ yX1_refuses cX1_refuses 2 (some .int)) 14 D cA P G [.ref o, .int v1] h C S (fun v h' => ∃ z : Int32, v = some (.int z) ∧ Q z h') zc_no := by
  refine zc_ofF hl9 rfl (by decide +kernel) (Nat.le_of_ble_eq_true rfl) ?_
  intro p e s m args below meth c H locs ls X hN hT hH hl
  have hx := X.1
  have hb := X.2.1
  have hown := X.2.2.2.1
  have hts := X.2.2.2.2.1
  have hl : lv_has ls 2 [(0, .ref o), (1, .int v1)] := hl
  have hB : 0 + C ≤ C ∧ 0 + S ≤ S := ⟨by omega, by omega⟩
  unfold fc_X1_refuses at hF
  refine lv_aload_n hx hb dX1_refuses_0 rfl (lv_at hl 0 rfl) ?_
  refine lv_bipush (v := 14) hx hb dX1_refuses_1 (by decide) ?_
  refine lv_iload_n hx hb dX1_refuses_3 rfl (lv_at hl 1 rfl) ?_
  refine lv_iconst (v := 0) hx hb dX1_refuses_4 (by decide) ?_
  refine lv_iconst (v := 0) hx hb dX1_refuses_5 (by decide) ?_
  refine lv_iconst (v := 0) hx hb dX1_refuses_6 (by decide) ?_
  refine lv_iconst (v := 0) hx hb dX1_refuses_7 (by decide) ?_
  obtain ⟨hc, hF⟩ := hF
  obtain ⟨c1, s2, hc1, hs1, hF⟩ := hF
  refine zc_call (c1 := c1) (s1 := s2) (rest := []) hH hB hc1 hs1 (fun hf => zc_rVW X hH hc (by decide) rfl (As := [.int 14, .int v1, .int 0, .int 0, .int 0, .int 0]) (wc_X1_does X.2.2.2.2.2.2.2.1 hF) (lw_VW q1449 q1451 qs23 q87 q1452) ⟨rfl, by decide, by decide, rfl⟩ ⟨Nat.le_of_ble_eq_true rfl, Nat.le_of_ble_eq_true rfl, Nat.le_of_ble_eq_true rfl⟩ rfl hl.1 (st0 := [.int 0, .int 0, .int 0, .int 0, .int v1, .int 14, .ref o]) rfl (Nat.le_of_ble_eq_true rfl) dX1_refuses_8 hf) (fun E9 ce9 q9 h9 H locs hx9 => False.elim hx9) (fun v9 h4 H locs hv9 hH hB => ?_)
  obtain ⟨z3, rfl, hF⟩ := hv9
  exact zc_iret X hH hB rfl rfl ⟨_, rfl, hF⟩ dX1_refuses_11
set_option maxHeartbeats 4000000 in
set_option maxRecDepth 100000 in
theorem wc_X1_bury {l : Launch} {D : va_G} {cA : Nat → ClassId} {P : Nat → Prop} {G : Nat × Nat × Nat} {o : Nat} {Q : Int32 → ZH → Prop} {h : ZH} {C S : Nat} {v1 : Int32} {v2 : Int32} {v3 : Int32} {v4 : Int32} (hl9 : l.stackTraces = false) (hF : fc_X1_bury G o Q h C S v1 v2 v3 v4) :
    zc_M l yX1_bury (ws_ yX1_bury cX1_bury 5 (some .int)) 14 D cA P G [.ref o, .int v1, .int v2, .int v3, .int v4] h C S (fun v h' => ∃ z : Int32, v = some (.int z) ∧ Q z h') zc_no := by
  refine zc_ofF hl9 rfl (by decide +kernel) (Nat.le_of_ble_eq_true rfl) ?_
  intro p e s m args below meth c H locs ls X hN hT hH hl
  have hx := X.1
  have hb := X.2.1
  have hown := X.2.2.2.1
  have hts := X.2.2.2.2.1
  have hl : lv_has ls 5 [(0, .ref o), (1, .int v1), (2, .int v2), (3, .int v3), (4, .int v4)] := hl
  have hB : 0 + C ≤ C ∧ 0 + S ≤ S := ⟨by omega, by omega⟩
  unfold fc_X1_bury at hF
  refine lv_aload_n hx hb dX1_bury_0 rfl (lv_at hl 0 rfl) ?_
  refine lv_bipush (v := 15) hx hb dX1_bury_1 (by decide) ?_
  refine lv_iload_n hx hb dX1_bury_3 rfl (lv_at hl 1 rfl) ?_
  refine lv_iload_n hx hb dX1_bury_4 rfl (lv_at hl 2 rfl) ?_
  refine lv_iload_n hx hb dX1_bury_5 rfl (lv_at hl 3 rfl) ?_
  refine lv_iload hx hb dX1_bury_6 (lv_at hl 4 rfl) ?_
  refine lv_iconst (v := 0) hx hb dX1_bury_8 (by decide) ?_
  obtain ⟨hc, hF⟩ := hF
  obtain ⟨c1, s2, hc1, hs1, hF⟩ := hF
  refine zc_call (c1 := c1) (s1 := s2) (rest := []) hH hB hc1 hs1 (fun hf => zc_rVW X hH hc (by decide) rfl (As := [.int 15, .int v1, .int v2, .int v3, .int v4, .int 0]) (wc_X1_does X.2.2.2.2.2.2.2.1 hF) (lw_VW q1449 q1451 qs23 q87 q1452) ⟨rfl, by decide, by decide, rfl⟩ ⟨Nat.le_of_ble_eq_true rfl, Nat.le_of_ble_eq_true rfl, Nat.le_of_ble_eq_true rfl⟩ rfl hl.1 (st0 := [.int 0, .int v4, .int v3, .int v2, .int v1, .int 15, .ref o]) rfl (Nat.le_of_ble_eq_true rfl) dX1_bury_9 hf) (fun E9 ce9 q9 h9 H locs hx9 => False.elim hx9) (fun v9 h4 H locs hv9 hH hB => ?_)
  obtain ⟨z3, rfl, hF⟩ := hv9
  exact zc_iret X hH hB rfl rfl ⟨_, rfl, hF⟩ dX1_bury_12
set_option maxHeartbeats 4000000 in
set_option maxRecDepth 100000 in
theorem wc_X1_move {l : Launch} {D : va_G} {cA : Nat → ClassId} {P : Nat → Prop} {G : Nat × Nat × Nat} {o : Nat} {Q : Int32 → ZH → Prop} {h : ZH} {C S : Nat} {v1 : Int32} {v2 : Int32} {v3 : Int32} {v4 : Int32} (hl9 : l.stackTraces = false) (hF : fc_X1_move G o Q h C S v1 v2 v3 v4) :
    zc_M l yX1_move (ws_ yX1_move cX1_move 5 (some .int)) 14 D cA P G [.ref o, .int v1, .int v2, .int v3, .int v4] h C S (fun v h' => ∃ z : Int32, v = some (.int z) ∧ Q z h') zc_no := by
  refine zc_ofF hl9 rfl (by decide +kernel) (Nat.le_of_ble_eq_true rfl) ?_
  intro p e s m args below meth c H locs ls X hN hT hH hl
  have hx := X.1
  have hb := X.2.1
  have hown := X.2.2.2.1
  have hts := X.2.2.2.2.1
  have hl : lv_has ls 5 [(0, .ref o), (1, .int v1), (2, .int v2), (3, .int v3), (4, .int v4)] := hl
  have hB : 0 + C ≤ C ∧ 0 + S ≤ S := ⟨by omega, by omega⟩
  unfold fc_X1_move at hF
  refine lv_aload_n hx hb dX1_move_0 rfl (lv_at hl 0 rfl) ?_
  refine lv_bipush (v := 16) hx hb dX1_move_1 (by decide) ?_
  refine lv_iload_n hx hb dX1_move_3 rfl (lv_at hl 1 rfl) ?_
  refine lv_iload_n hx hb dX1_move_4 rfl (lv_at hl 2 rfl) ?_
  refine lv_iload_n hx hb dX1_move_5 rfl (lv_at hl 3 rfl) ?_
  refine lv_iload hx hb dX1_move_6 (lv_at hl 4 rfl) ?_
  refine lv_iconst (v := 0) hx hb dX1_move_8 (by decide) ?_
  obtain ⟨hc, hF⟩ := hF
  obtain ⟨c1, s2, hc1, hs1, hF⟩ := hF
  refine zc_call (c1 := c1) (s1 := s2) (rest := []) hH hB hc1 hs1 (fun hf => zc_rVW X hH hc (by decide) rfl (As := [.int 16, .int v1, .int v2, .int v3, .int v4, .int 0]) (wc_X1_does X.2.2.2.2.2.2.2.1 hF) (lw_VW q1449 q1451 qs23 q87 q1452) ⟨rfl, by decide, by decide, rfl⟩ ⟨Nat.le_of_ble_eq_true rfl, Nat.le_of_ble_eq_true rfl, Nat.le_of_ble_eq_true rfl⟩ rfl hl.1 (st0 := [.int 0, .int v4, .int v3, .int v2, .int v1, .int 16, .ref o]) rfl (Nat.le_of_ble_eq_true rfl) dX1_move_9 hf) (fun E9 ce9 q9 h9 H locs hx9 => False.elim hx9) (fun v9 h4 H locs hv9 hH hB => ?_)
  obtain ⟨z3, rfl, hF⟩ := hv9
  exact zc_iret X hH hB rfl rfl ⟨_, rfl, hF⟩ dX1_move_12
set_option maxHeartbeats 4000000 in
set_option maxRecDepth 100000 in
theorem wc_X1_clear {l : Launch} {D : va_G} {cA : Nat → ClassId} {P : Nat → Prop} {G : Nat × Nat × Nat} {o : Nat} {Q : Int32 → ZH → Prop} {h : ZH} {C S : Nat} {v1 : Int32} (hl9 : l.stackTraces = false) (hF : fc_X1_clear G o Q h C S v1) :
    zc_M l yX1_clear (ws_ yX1_clear cX1_clear 2 (some .int)) 14 D cA P G [.ref o, .int v1] h C S (fun v h' => ∃ z : Int32, v = some (.int z) ∧ Q z h') zc_no := by
  refine zc_ofF hl9 rfl (by decide +kernel) (Nat.le_of_ble_eq_true rfl) ?_
  intro p e s m args below meth c H locs ls X hN hT hH hl
  have hx := X.1
  have hb := X.2.1
  have hown := X.2.2.2.1
  have hts := X.2.2.2.2.1
  have hl : lv_has ls 2 [(0, .ref o), (1, .int v1)] := hl
  have hB : 0 + C ≤ C ∧ 0 + S ≤ S := ⟨by omega, by omega⟩
  unfold fc_X1_clear at hF
  refine lv_aload_n hx hb dX1_clear_0 rfl (lv_at hl 0 rfl) ?_
  refine lv_bipush (v := 17) hx hb dX1_clear_1 (by decide) ?_
  refine lv_iload_n hx hb dX1_clear_3 rfl (lv_at hl 1 rfl) ?_
  refine lv_iconst (v := 0) hx hb dX1_clear_4 (by decide) ?_
  refine lv_iconst (v := 0) hx hb dX1_clear_5 (by decide) ?_
  refine lv_iconst (v := 0) hx hb dX1_clear_6 (by decide) ?_
  refine lv_iconst (v := 0) hx hb dX1_clear_7 (by decide) ?_
  obtain ⟨hc, hF⟩ := hF
  obtain ⟨c1, s2, hc1, hs1, hF⟩ := hF
  refine zc_call (c1 := c1) (s1 := s2) (rest := []) hH hB hc1 hs1 (fun hf => zc_rVW X hH hc (by decide) rfl (As := [.int 17, .int v1, .int 0, .int 0, .int 0, .int 0]) (wc_X1_does X.2.2.2.2.2.2.2.1 hF) (lw_VW q1449 q1451 qs23 q87 q1452) ⟨rfl, by decide, by decide, rfl⟩ ⟨Nat.le_of_ble_eq_true rfl, Nat.le_of_ble_eq_true rfl, Nat.le_of_ble_eq_true rfl⟩ rfl hl.1 (st0 := [.int 0, .int 0, .int 0, .int 0, .int v1, .int 17, .ref o]) rfl (Nat.le_of_ble_eq_true rfl) dX1_clear_8 hf) (fun E9 ce9 q9 h9 H locs hx9 => False.elim hx9) (fun v9 h4 H locs hv9 hH hB => ?_)
  obtain ⟨z3, rfl, hF⟩ := hv9
  exact zc_iret X hH hB rfl rfl ⟨_, rfl, hF⟩ dX1_clear_11
set_option maxHeartbeats 4000000 in
set_option maxRecDepth 100000 in
theorem wc_X1_turn {l : Launch} {D : va_G} {cA : Nat → ClassId} {P : Nat → Prop} {G : Nat × Nat × Nat} {o : Nat} {Q : Int32 → ZH → Prop} {h : ZH} {C S : Nat} {v1 : Int32} (hl9 : l.stackTraces = false) (hF : fc_X1_turn G o Q h C S v1) :
    zc_M l yX1_turn (ws_ yX1_turn cX1_turn 2 (some .int)) 14 D cA P G [.ref o, .int v1] h C S (fun v h' => ∃ z : Int32, v = some (.int z) ∧ Q z h') zc_no := by
  refine zc_ofF hl9 rfl (by decide +kernel) (Nat.le_of_ble_eq_true rfl) ?_
  intro p e s m args below meth c H locs ls X hN hT hH hl
  have hx := X.1
  have hb := X.2.1
  have hown := X.2.2.2.1
  have hts := X.2.2.2.2.1
  have hl : lv_has ls 2 [(0, .ref o), (1, .int v1)] := hl
  have hB : 0 + C ≤ C ∧ 0 + S ≤ S := ⟨by omega, by omega⟩
  unfold fc_X1_turn at hF
  refine lv_aload_n hx hb dX1_turn_0 rfl (lv_at hl 0 rfl) ?_
  refine lv_bipush (v := 18) hx hb dX1_turn_1 (by decide) ?_
  refine lv_iload_n hx hb dX1_turn_3 rfl (lv_at hl 1 rfl) ?_
  refine lv_iconst (v := 0) hx hb dX1_turn_4 (by decide) ?_
  refine lv_iconst (v := 0) hx hb dX1_turn_5 (by decide) ?_
  refine lv_iconst (v := 0) hx hb dX1_turn_6 (by decide) ?_
  refine lv_iconst (v := 0) hx hb dX1_turn_7 (by decide) ?_
  obtain ⟨hc, hF⟩ := hF
  obtain ⟨c1, s2, hc1, hs1, hF⟩ := hF
  refine zc_call (c1 := c1) (s1 := s2) (rest := []) hH hB hc1 hs1 (fun hf => zc_rVW X hH hc (by decide) rfl (As := [.int 18, .int v1, .int 0, .int 0, .int 0, .int 0]) (wc_X1_does X.2.2.2.2.2.2.2.1 hF) (lw_VW q1449 q1451 qs23 q87 q1452) ⟨rfl, by decide, by decide, rfl⟩ ⟨Nat.le_of_ble_eq_true rfl, Nat.le_of_ble_eq_true rfl, Nat.le_of_ble_eq_true rfl⟩ rfl hl.1 (st0 := [.int 0, .int 0, .int 0, .int 0, .int v1, .int 18, .ref o]) rfl (Nat.le_of_ble_eq_true rfl) dX1_turn_8 hf) (fun E9 ce9 q9 h9 H locs hx9 => False.elim hx9) (fun v9 h4 H locs hv9 hH hB => ?_)
  obtain ⟨z3, rfl, hF⟩ := hv9
  exact zc_iret X hH hB rfl rfl ⟨_, rfl, hF⟩ dX1_turn_11
set_option maxHeartbeats 4000000 in
set_option maxRecDepth 100000 in
theorem wc_X1_why {l : Launch} {D : va_G} {cA : Nat → ClassId} {P : Nat → Prop} {G : Nat × Nat × Nat} {o : Nat} {Q : Int32 → Prop} {h : ZH} {C S : Nat} {v1 : Int32} {v2 : Int32} {v3 : Int32} {v4 : Int32} (hl9 : l.stackTraces = false) (hF : fc_X1_why G o Q h v1 v2 v3 v4) :
    zc_M l yX1_why (ws_ yX1_why cX1_why 5 (some .int)) 10 D cA P G [.ref o, .int v1, .int v2, .int v3, .int v4] h C S (fun v h' => ∃ z : Int32, v = some (.int z) ∧ Q z ∧ h = h') zc_no := by
  refine zc_ofF hl9 rfl (by decide +kernel) (Nat.le_of_ble_eq_true rfl) ?_
  intro p e s m args below meth c H locs ls X hN hT hH hl
  have hx := X.1
  have hb := X.2.1
  have hown := X.2.2.2.1
  have hts := X.2.2.2.2.1
  have hl : lv_has ls 5 [(0, .ref o), (1, .int v1), (2, .int v2), (3, .int v3), (4, .int v4)] := hl
  have hB : 0 + 0 ≤ C ∧ 0 + 0 ≤ S := ⟨by omega, by omega⟩
  have eh : h = h := rfl
  unfold fc_X1_why at hF
  refine lv_aload_n hx hb dX1_why_0 rfl (lv_at hl 0 rfl) ?_
  obtain ⟨hc, hF⟩ := hF
  refine zc_getf X hH hc 2 102 ("ChurchyardBook", "book", "LChurchyardBook$Book;", false) (by decide +kernel) (v := va_rf (zr h 102 o)) rfl q216 (Or.inl rfl) dX1_why_1 ?_
  refine lv_iload_n hx hb dX1_why_4 rfl (lv_at hl 1 rfl) ?_
  refine lv_iload_n hx hb dX1_why_5 rfl (lv_at hl 2 rfl) ?_
  refine lv_iload_n hx hb dX1_why_6 rfl (lv_at hl 3 rfl) ?_
  refine lv_iload hx hb dX1_why_7 (lv_at hl 4 rfl) ?_
  obtain ⟨b1, eb1, hF⟩ := hF
  refine zq_st (st2 := [.int v4, .int v3, .int v2, .int v1, .ref b1]) (by rw [eb1]; first | done | rfl) ?_
  obtain ⟨hc, hF⟩ := hF
  refine zc_call (c1 := 0) (s1 := 0) (rest := []) hH hB (Nat.zero_le _) (Nat.zero_le _) (fun hf => zc_rV X hH hc (by decide) rfl (As := [.int v1, .int v2, .int v3, .int v4]) (wc_X5_why X.2.2.2.2.2.2.2.1 hF) (lw_V q1525 q1108 q1109 q91 q1110) ⟨rfl, by decide, by decide, rfl⟩ ⟨Nat.le_of_ble_eq_true rfl, Nat.le_of_ble_eq_true rfl, Nat.le_of_ble_eq_true rfl⟩ rfl hl.1 (st0 := [.int v4, .int v3, .int v2, .int v1, .ref b1]) rfl (Nat.le_of_ble_eq_true rfl) dX1_why_9 hf) (fun E9 ce9 q9 h9 H locs hx9 => False.elim hx9) (fun v9 h9 H locs hv9 hH hB => ?_)
  obtain ⟨z2, rfl, hF, rfl⟩ := hv9
  exact zc_iret X hH hB rfl rfl ⟨_, rfl, hF, eh⟩ dX1_why_12
set_option maxHeartbeats 4000000 in
set_option maxRecDepth 100000 in
theorem wc_X10_opens {l : Launch} {D : va_G} {cA : Nat → ClassId} {P : Nat → Prop} {G : Nat × Nat × Nat} {o : Nat} {Q : Int32 → Prop} {h : ZH} {C S : Nat} {v1 : Int32} {v2 : Int32} {v3 : Int32} (hl9 : l.stackTraces = false) (hF : fc_X10_opens G o Q h v1 v2 v3) :
    zc_M l yX10_opens (ws_ yX10_opens cX10_opens 5 (some .int)) 5 D cA P G [.ref o, .int v1, .int v2, .int v3] h C S (fun v h' => ∃ z : Int32, v = some (.int z) ∧ Q z ∧ h = h') zc_no := by
  refine zc_ofF hl9 rfl (by decide +kernel) (Nat.le_of_ble_eq_true rfl) ?_
  intro p e s m args below meth c H locs ls X hN hT hH hl
  have hx := X.1
  have hb := X.2.1
  have hown := X.2.2.2.1
  have hts := X.2.2.2.2.1
  have hl : lv_has ls 5 [(0, .ref o), (1, .int v1), (2, .int v2), (3, .int v3)] := hl
  have hB : 0 + 0 ≤ C ∧ 0 + 0 ≤ S := ⟨by omega, by omega⟩
  have eh : h = h := rfl
  unfold fc_X10_opens at hF
  refine lv_aload_n hx hb dX10_opens_0 rfl (lv_at hl 0 rfl) ?_
  refine lv_iload_n hx hb dX10_opens_1 rfl (lv_at hl 1 rfl) ?_
  refine lv_iload_n hx hb dX10_opens_2 rfl (lv_at hl 2 rfl) ?_
  refine zc_call (c1 := 0) (s1 := 0) (rest := []) hH hB (Nat.zero_le _) (Nat.zero_le _) (fun hf => rv_in_25 X hH q1547 hF ⟨Nat.le_of_ble_eq_true rfl, Nat.le_of_ble_eq_true rfl, Nat.le_of_ble_eq_true rfl⟩ hl.1 (st0 := [.int v2, .int v1, .ref o]) rfl (Nat.le_of_ble_eq_true rfl) dX10_opens_3 hf) (fun E9 ce9 q9 h9 H locs hx9 => False.elim hx9) (fun v9 h9 H locs hv9 hH hB => ?_)
  obtain ⟨r1, rfl, hF, rfl⟩ := hv9
  refine zq_astore (r := r1) (lv' := [(4, va_rf r1), (0, .ref o), (1, .int v1), (2, .int v2), (3, .int v3)]) hx hb rfl dX10_opens_6 hl (by decide) rfl (fun ls hl => ?_)
  refine zq_aload hx hb dX10_opens_8 (lv_at hl 0 rfl) ?_
  refine zq_ifnonnull (tgt := 17) hx hb dX10_opens_10 (by decide) (fun b2 eb2 => ?_) (fun cd => ?_)
  · have hF := hF.2 b2 eb2
    refine lv_iload_n hx hb dX10_opens_17 rfl (lv_at hl 4 rfl) ?_
    refine zq_aload hx hb dX10_opens_18 (lv_at hl 0 rfl) ?_
    refine zq_st (st2 := [.ref b2, .int v3]) (by rw [eb2]; first | done | rfl) ?_
    obtain ⟨hc, hF⟩ := hF
    refine zc_getf X hH hc 9 709 ("ChurchyardBook$Person", "end", "I", false) (by decide +kernel) (v := .int (zi h 709 b2)) rfl q887 (Or.inl rfl) dX10_opens_20 ?_
    refine zc_call (c1 := 0) (s1 := 0) (rest := []) hH hB (Nat.zero_le _) (Nat.zero_le _) (fun hf => zc_rS X hH (As := [.int v3, .int (zi h 709 b2)]) (wc_J6_max X.2.2.2.2.2.2.2.1 hF) (lw_S q1555 q396 q101 q397) ⟨by decide, by decide, rfl⟩ ⟨Nat.le_of_ble_eq_true rfl, Nat.le_of_ble_eq_true rfl, Nat.le_of_ble_eq_true rfl⟩ rfl hl.1 (st0 := [.int (zi h 709 b2), .int v3]) rfl (Nat.le_of_ble_eq_true rfl) dX10_opens_23 hf) (fun E9 ce9 q9 h9 H locs hx9 => False.elim hx9) (fun v9 h9 H locs hv9 hH hB => ?_)
    obtain ⟨z3, rfl, hF, rfl⟩ := hv9
    exact zc_iret X hH hB rfl rfl ⟨_, rfl, hF, eh⟩ dX10_opens_26
  · have hF := hF.1 cd
    refine lv_iload_n hx hb dX10_opens_13 rfl (lv_at hl 4 rfl) ?_
    refine lv_goto (tgt := 26) hx hb dX10_opens_14 (by decide) ?_
    exact zc_iret X hH hB rfl rfl ⟨_, rfl, hF, eh⟩ dX10_opens_26
set_option maxHeartbeats 1000000 in
theorem rv_opens_26 {p : Program} {l : Launch} {e : Env} {R : Room} {s : State} {m : MethodId} {args : Array Value} {below : List Frame} {meth : Method} {c : Code} {H : Heap} {locs : List Loc} {cells slots : Nat} {cc : ByteArray} {nL pc : Nat} {ret : Option FieldType} {own : String} {ls : Array Slot} {rest : List Value} {D : va_G} {cA : Nat → ClassId} {P : Nat → Prop} {G : Nat × Nat × Nat} {h : ZH} {C S a idx : Nat} {Q : Int32 → Prop} {v1 : Int32} {v2 : Int32} {v3 : Int32} (X : zc_Cx p l s m args meth c cc nL ret own D cA P G) (hH : zc_H D cA P h s H locs) (hlk : Cond.methodLink own idx ⟨"ChurchyardBook$Single", "opens", "(III)I"⟩ ∈ lw_all) (hF : fv_opens_26 G a Q h v1 v2 v3) (hR : zc_rm R 5 11) (hsize : ls.size = nL) {st0 : List Value} (hst : st0 = ([.int v1, .int v2, .int v3] : List Value).reverse ++ .ref a :: rest) (hcat : (rest.map fun v => v.category).sum ≤ 8) (hdg : decode cc pc = .ok (.invokevirtual idx, 3)) (hf : cells + C ≤ R.cells ∧ slots + S ≤ R.slots) :
    vx_Run p l e R s m args below meth c H locs cells slots C S (F0 m pc ls st0) rest (zc_Q D cA P (fun v h' => ∃ z : Int32, v = some (.int z) ∧ Q z ∧ h = h') (Value.ref a :: [.int v1, .int v2, .int v3]).toArray) (zc_X D cA P zc_no) P := by
  unfold fv_opens_26 at hF
  have hR9 := hR
  obtain ⟨hc, hF⟩ := hF
  simp only [List.mem_cons, List.not_mem_nil, or_false] at hc
  rcases hc with hc | hc | hc | hc | hc | hc
  · have hF := hF (by rw [hc]; decide)
    exact zc_rV X hH hc (by decide) rfl (As := [.int v1, .int v2, .int v3]) (wc_X10_opens X.2.2.2.2.2.2.2.1 hF) (lw_V hlk q1538 q1539 q115 q1546) ⟨rfl, by decide, by decide, rfl⟩ (zc_rm_le hR9 (by decide) (by decide)) rfl hsize hst hcat hdg hf
  · have hF := hF (by rw [hc]; decide)
    exact zc_rU X hH hc (by decide) rfl (owner := "ChurchyardBook$Single") (x := ⟨"ChurchyardBook$Single", "opens", "(III)I"⟩) (As := [.int v1, .int v2, .int v3]) (wc_X10_opens X.2.2.2.2.2.2.2.1 hF) (lw_meth q1546) (X.2.2.2.2.1 _ hlk) (X.2.2.2.2.1 _ q1540) (zc_declC X q1538 q1546) (X.2.2.2.2.1 _ q1542) q1538 q115 ⟨by decide, by decide, rfl⟩ (zc_rm_le hR9 (by decide) (by decide)) rfl hsize hst hcat hdg hf
  · have hF := hF (by rw [hc]; decide)
    exact zc_rU X hH hc (by decide) rfl (owner := "ChurchyardBook$Single") (x := ⟨"ChurchyardBook$Single", "opens", "(III)I"⟩) (As := [.int v1, .int v2, .int v3]) (wc_X10_opens X.2.2.2.2.2.2.2.1 hF) (lw_meth q1546) (X.2.2.2.2.1 _ hlk) (X.2.2.2.2.1 _ q1540) (zc_declC X q1538 q1546) (X.2.2.2.2.1 _ q1543) q1538 q115 ⟨by decide, by decide, rfl⟩ (zc_rm_le hR9 (by decide) (by decide)) rfl hsize hst hcat hdg hf
  · have hF := hF (by rw [hc]; decide)
    exact zc_rU X hH hc (by decide) rfl (owner := "ChurchyardBook$Single") (x := ⟨"ChurchyardBook$Single", "opens", "(III)I"⟩) (As := [.int v1, .int v2, .int v3]) (wc_X10_opens X.2.2.2.2.2.2.2.1 hF) (lw_meth q1546) (X.2.2.2.2.1 _ hlk) (X.2.2.2.2.1 _ q1540) (zc_declC X q1538 q1546) (X.2.2.2.2.1 _ q1545) q1538 q115 ⟨by decide, by decide, rfl⟩ (zc_rm_le hR9 (by decide) (by decide)) rfl hsize hst hcat hdg hf
  · have hF := hF (by rw [hc]; decide)
    exact zc_rU X hH hc (by decide) rfl (owner := "ChurchyardBook$Single") (x := ⟨"ChurchyardBook$Single", "opens", "(III)I"⟩) (As := [.int v1, .int v2, .int v3]) (wc_X10_opens X.2.2.2.2.2.2.2.1 hF) (lw_meth q1546) (X.2.2.2.2.1 _ hlk) (X.2.2.2.2.1 _ q1540) (zc_declC X q1538 q1546) (X.2.2.2.2.1 _ q1544) q1538 q115 ⟨by decide, by decide, rfl⟩ (zc_rm_le hR9 (by decide) (by decide)) rfl hsize hst hcat hdg hf
  · have hF := hF (by rw [hc]; decide)
    exact zc_rU X hH hc (by decide) rfl (owner := "ChurchyardBook$Single") (x := ⟨"ChurchyardBook$Single", "opens", "(III)I"⟩) (As := [.int v1, .int v2, .int v3]) (wc_X10_opens X.2.2.2.2.2.2.2.1 hF) (lw_meth q1546) (X.2.2.2.2.1 _ hlk) (X.2.2.2.2.1 _ q1540) (zc_declC X q1538 q1546) (X.2.2.2.2.1 _ q1541) q1538 q115 ⟨by decide, by decide, rfl⟩ (zc_rm_le hR9 (by decide) (by decide)) rfl hsize hst hcat hdg hf
set_option maxHeartbeats 1000000 in
theorem rv_opens_27 {p : Program} {l : Launch} {e : Env} {R : Room} {s : State} {m : MethodId} {args : Array Value} {below : List Frame} {meth : Method} {c : Code} {H : Heap} {locs : List Loc} {cells slots : Nat} {cc : ByteArray} {nL pc : Nat} {ret : Option FieldType} {own : String} {ls : Array Slot} {rest : List Value} {D : va_G} {cA : Nat → ClassId} {P : Nat → Prop} {G : Nat × Nat × Nat} {h : ZH} {C S a idx : Nat} {Q : Int32 → Prop} {v1 : Int32} {v2 : Int32} {v3 : Int32} (X : zc_Cx p l s m args meth c cc nL ret own D cA P G) (hH : zc_H D cA P h s H locs) (hlk : Cond.methodLink own idx ⟨"ChurchyardBook$Deep", "opens", "(III)I"⟩ ∈ lw_all) (hF : fv_opens_27 G a Q h v1 v2 v3) (hR : zc_rm R 5 11) (hsize : ls.size = nL) {st0 : List Value} (hst : st0 = ([.int v1, .int v2, .int v3] : List Value).reverse ++ .ref a :: rest) (hcat : (rest.map fun v => v.category).sum ≤ 8) (hdg : decode cc pc = .ok (.invokevirtual idx, 3)) (hf : cells + C ≤ R.cells ∧ slots + S ≤ R.slots) :
    vx_Run p l e R s m args below meth c H locs cells slots C S (F0 m pc ls st0) rest (zc_Q D cA P (fun v h' => ∃ z : Int32, v = some (.int z) ∧ Q z ∧ h = h') (Value.ref a :: [.int v1, .int v2, .int v3]).toArray) (zc_X D cA P zc_no) P := by
  unfold fv_opens_27 at hF
  have hR9 := hR
  obtain ⟨hc, hF⟩ := hF
  simp only [List.mem_cons, List.not_mem_nil, or_false] at hc
  rcases hc with hc | hc
  · have hF := hF (by rw [hc]; decide)
    exact zc_rU X hH hc (by decide) rfl (owner := "ChurchyardBook$Single") (x := ⟨"ChurchyardBook$Deep", "opens", "(III)I"⟩) (As := [.int v1, .int v2, .int v3]) (wc_X10_opens X.2.2.2.2.2.2.2.1 hF) (lw_meth q1546) (X.2.2.2.2.1 _ hlk) (X.2.2.2.2.1 _ q1572) (zc_declC X q1538 q1546) (X.2.2.2.2.1 _ q1574) q1538 q115 ⟨by decide, by decide, rfl⟩ (zc_rm_le hR9 (by decide) (by decide)) rfl hsize hst hcat hdg hf
  · have hF := hF (by rw [hc]; decide)
    exact zc_rU X hH hc (by decide) rfl (owner := "ChurchyardBook$Single") (x := ⟨"ChurchyardBook$Deep", "opens", "(III)I"⟩) (As := [.int v1, .int v2, .int v3]) (wc_X10_opens X.2.2.2.2.2.2.2.1 hF) (lw_meth q1546) (X.2.2.2.2.1 _ hlk) (X.2.2.2.2.1 _ q1572) (zc_declC X q1538 q1546) (X.2.2.2.2.1 _ q1575) q1538 q115 ⟨by decide, by decide, rfl⟩ (zc_rm_le hR9 (by decide) (by decide)) rfl hsize hst hcat hdg hf
set_option maxHeartbeats 4000000 in
set_option maxRecDepth 100000 in
theorem wc_X10_times {l : Launch} {D : va_G} {cA : Nat → ClassId} {P : Nat → Prop} {G : Nat × Nat × Nat} {Q : Int32 → Prop} {h : ZH} {C S : Nat} {v0 : Int32} {v1 : Int32} {v2 : Int32} (hl9 : l.stackTraces = false) (hF : fc_X10_times G Q h v0 v1 v2) :
    zc_M l yX10_times (ws_ yX10_times cX10_times 3 (some .int)) 1 D cA P G [.int v0, .int v1, .int v2] h C S (fun v h' => ∃ z : Int32, v = some (.int z) ∧ Q z ∧ h = h') zc_no := by
  refine zc_ofF hl9 rfl (by decide +kernel) (Nat.le_of_ble_eq_true rfl) ?_
  intro p e s m args below meth c H locs ls X hN hT hH hl
  have hx := X.1
  have hb := X.2.1
  have hown := X.2.2.2.1
  have hts := X.2.2.2.2.1
  have hl : lv_has ls 3 [(0, .int v0), (1, .int v1), (2, .int v2)] := hl
  have hB : 0 + 0 ≤ C ∧ 0 + 0 ≤ S := ⟨by omega, by omega⟩
  have eh : h = h := rfl
  unfold fc_X10_times at hF
  refine lv_iload_n hx hb dX10_times_0 rfl (lv_at hl 0 rfl) ?_
  refine lv_iload_n hx hb dX10_times_1 rfl (lv_at hl 1 rfl) ?_
  refine lv_icmp_le (tgt := 9) hx hb dX10_times_2 (by decide) (fun cd => ?_) (fun cd => ?_)
  · have hF := hF.1 cd
    refine lv_iconst (v := 1) hx hb dX10_times_9 (by decide) ?_
    refine lv_iload_n hx hb dX10_times_10 rfl (lv_at hl 1 rfl) ?_
    refine lv_iload_n hx hb dX10_times_11 rfl (lv_at hl 0 rfl) ?_
    refine lv_isub hx hb dX10_times_12 ?_
    refine lv_iload_n hx hb dX10_times_13 rfl (lv_at hl 2 rfl) ?_
    obtain ⟨hI, hF⟩ := hF
    refine lv_idiv hx hb dX10_times_14 hI ?_
    refine lv_iadd hx hb dX10_times_15 ?_
    exact zc_iret X hH hB rfl rfl ⟨_, rfl, hF, eh⟩ dX10_times_16
  · have hF := hF.2 cd
    refine lv_iconst (v := 0) hx hb dX10_times_5 (by decide) ?_
    refine lv_goto (tgt := 16) hx hb dX10_times_6 (by decide) ?_
    exact zc_iret X hH hB rfl rfl ⟨_, rfl, hF, eh⟩ dX10_times_16
set_option maxHeartbeats 4000000 in
set_option maxRecDepth 100000 in
theorem wc_X10_plan {l : Launch} {D : va_G} {cA : Nat → ClassId} {P : Nat → Prop} {G : Nat × Nat × Nat} {o : Nat} {Q : Int32 → Prop} {h : ZH} {C S : Nat} {v1 : Int32} {v2 : Int32} {v3 : Int32} (hl9 : l.stackTraces = false) (hF : fc_X10_plan G o Q h v1 v2 v3) :
    zc_M l yX10_plan (ws_ yX10_plan cX10_plan 4 (some .int)) 6 D cA P G [.ref o, .int v1, .int v2, .int v3] h C S (fun v h' => ∃ z : Int32, v = some (.int z) ∧ Q z ∧ h = h') zc_no := by
  refine zc_ofF hl9 rfl (by decide +kernel) (Nat.le_of_ble_eq_true rfl) ?_
  intro p e s m args below meth c H locs ls X hN hT hH hl
  have hx := X.1
  have hb := X.2.1
  have hown := X.2.2.2.1
  have hts := X.2.2.2.2.1
  have hl : lv_has ls 4 [(0, .ref o), (1, .int v1), (2, .int v2), (3, .int v3)] := hl
  have hB : 0 + 0 ≤ C ∧ 0 + 0 ≤ S := ⟨by omega, by omega⟩
  have eh : h = h := rfl
  unfold fc_X10_plan at hF
  refine lv_aload_n hx hb dX10_plan_0 rfl (lv_at hl 0 rfl) ?_
  refine lv_iconst (v := 0) hx hb dX10_plan_1 (by decide) ?_
  refine lv_iconst (v := 0) hx hb dX10_plan_2 (by decide) ?_
  refine lv_iload_n hx hb dX10_plan_3 rfl (lv_at hl 1 rfl) ?_
  refine zc_call (c1 := 0) (s1 := 0) (rest := []) hH hB (Nat.zero_le _) (Nat.zero_le _) (fun hf => rv_opens_26 X hH q1537 hF ⟨Nat.le_of_ble_eq_true rfl, Nat.le_of_ble_eq_true rfl, Nat.le_of_ble_eq_true rfl⟩ hl.1 (st0 := [.int v1, .int 0, .int 0, .ref o]) rfl (Nat.le_of_ble_eq_true rfl) dX10_plan_4 hf) (fun E9 ce9 q9 h9 H locs hx9 => False.elim hx9) (fun v9 h9 H locs hv9 hH hB => ?_)
  obtain ⟨z1, rfl, hF, rfl⟩ := hv9
  refine lv_iload_n hx hb dX10_plan_7 rfl (lv_at hl 2 rfl) ?_
  refine lv_iload_n hx hb dX10_plan_8 rfl (lv_at hl 3 rfl) ?_
  refine zc_call (c1 := 0) (s1 := 0) (rest := []) hH hB (Nat.zero_le _) (Nat.zero_le _) (fun hf => zc_rS X hH (As := [.int z1, .int v2, .int v3]) (wc_X10_times X.2.2.2.2.2.2.2.1 hF) (lw_S q1556 q1557 q115 q1558) ⟨by decide, by decide, rfl⟩ ⟨Nat.le_of_ble_eq_true rfl, Nat.le_of_ble_eq_true rfl, Nat.le_of_ble_eq_true rfl⟩ rfl hl.1 (st0 := [.int v3, .int v2, .int z1]) rfl (Nat.le_of_ble_eq_true rfl) dX10_plan_9 hf) (fun E9 ce9 q9 h9 H locs hx9 => False.elim hx9) (fun v9 h9 H locs hv9 hH hB => ?_)
  obtain ⟨z2, rfl, hF, rfl⟩ := hv9
  exact zc_iret X hH hB rfl rfl ⟨_, rfl, hF, eh⟩ dX10_plan_12
set_option maxHeartbeats 4000000 in
set_option maxRecDepth 100000 in
theorem wc_X11_column_42 {p : Program} {l : Launch} {e : Env} {s : State} {m : MethodId} {args : Array Value} {below : List Frame} {meth : Method} {c : Code} {D : va_G} {cA : Nat → ClassId} {P : Nat → Prop} {G : Nat × Nat × Nat} {C S : Nat} {o : Nat} {Q : Int32 → Prop} {h0 : ZH} (X : zc_Cx p l s m args meth c cX11_column 10 (some .int) "ChurchyardBook$Deep" D cA P G) (hN : meth.name = "column") (hT : c.exceptionTable.toList = tableOf []) :
    ∀ (n : Nat) (h : ZH) (v3 : Int32) (v4 : Int32) (v6 : Int32) (v7 : Int32) (v8 : Int32) (v9 : Int32), fc_X11_column_42 G o Q n h v3 v4 v6 v7 v8 v9 → ∀ (H : Heap) (locs : List Loc) (ls : Array Slot) (cells slots : Nat), cells + 0 ≤ C ∧ slots + 0 ≤ S → h0 = h → lv_has ls 10 [(0, .ref o), (3, .int v3), (4, .int v4), (6, .int v6), (7, .int v7), (8, .int v8), (9, .int v9)] → zc_H D cA P h s H locs → W p l e (zc_Ro 6 C S) s m args below meth c H locs cells slots (vx_MQ below (zc_Q D cA P (fun v h' => ∃ z : Int32, v = some (.int z) ∧ Q z ∧ h0 = h')) (zc_X D cA P zc_no) args s C S P) (F0 m 42 ls []) := by
  have hx := X.1
  have hb := X.2.1
  have hown := X.2.2.2.1
  have hts := X.2.2.2.2.1
  intro n
  induction n with
  | zero =>
    intro h v3 v4 v6 v7 v8 v9 hF
    exact False.elim hF
  | succ n ih =>
    intro h v3 v4 v6 v7 v8 v9 hF
    intro H locs ls cells slots hB eh hl hH
    unfold fc_X11_column_42 at hF
    refine lv_iload hx hb dX11_column_42 (lv_at hl 6 rfl) ?_
    refine lv_iload hx hb dX11_column_44 (lv_at hl 3 rfl) ?_
    refine lv_icmp_ge (tgt := 93) hx hb dX11_column_46 (by decide) (fun cd => ?_) (fun cd => ?_)
    · have hF := hF.1 cd
      refine lv_iload hx hb dX11_column_93 (lv_at hl 4 rfl) ?_
      exact zc_iret X hH hB rfl rfl ⟨_, rfl, hF, eh⟩ dX11_column_95
    · have hF := hF.2 cd
      refine lv_iload hx hb dX11_column_49 (lv_at hl 6 rfl) ?_
      refine lv_iload_n hx hb dX11_column_51 rfl (lv_at hl 1 rfl) ?_
      refine lv_icmp_gt (tgt := 93) hx hb dX11_column_52 (by decide) (fun cd => ?_) (fun cd => ?_)
      · have hF := hF.1 cd
        refine lv_iload hx hb dX11_column_93 (lv_at hl 4 rfl) ?_
        exact zc_iret X hH hB rfl rfl ⟨_, rfl, hF, eh⟩ dX11_column_95
      · have hF := hF.2 cd
        refine lv_iload hx hb dX11_column_55 (lv_at hl 6 rfl) ?_
        refine lv_iload hx hb dX11_column_57 (lv_at hl 2 rfl) ?_
        refine lv_iadd hx hb dX11_column_59 ?_
        refine lv_topi (fun x1 ex1 => ?_)
        have hF := hF x1 ex1
        refine lv_istore (lv' := [(9, .int x1), (0, .ref o), (3, .int v3), (4, .int v4), (6, .int v6), (7, .int v7), (8, .int v8)]) hx hb dX11_column_60 hl (by decide) rfl (fun ls hl => ?_)
        refine lv_iload hx hb dX11_column_62 (lv_at hl 5 rfl) ?_
        refine lv_iload hx hb dX11_column_64 (lv_at hl 6 rfl) ?_
        refine lv_iconst (v := 2) hx hb dX11_column_66 (by decide) ?_
        refine lv_iload hx hb dX11_column_67 (lv_at hl 0 rfl) ?_
        refine lv_iload hx hb dX11_column_69 (lv_at hl 4 rfl) ?_
        refine zc_call (c1 := 0) (s1 := 0) (rest := [.int 2, .int v8, .int v7]) hH hB (Nat.zero_le _) (Nat.zero_le _) (fun hf => zc_rS X hH (As := [.int x1, .int v6]) (wc_J6_max X.2.2.2.2.2.2.2.1 hF) (lw_S q1576 q396 q101 q397) ⟨by decide, by decide, rfl⟩ ⟨Nat.le_of_ble_eq_true rfl, Nat.le_of_ble_eq_true rfl, Nat.le_of_ble_eq_true rfl⟩ rfl hl.1 (st0 := [.int v6, .int x1, .int 2, .int v8, .int v7]) rfl (Nat.le_of_ble_eq_true rfl) dX11_column_71 hf) (fun E9 ce9 q9 h9 H locs hx9 => False.elim hx9) (fun v9 h9 H locs hv9 hH hB => ?_)
        obtain ⟨z2, rfl, hF, rfl⟩ := hv9
        refine lv_iload_n hx hb dX11_column_74 rfl (lv_at hl 2 rfl) ?_
        refine lv_iload hx hb dX11_column_75 (lv_at hl 3 rfl) ?_
        refine zc_call (c1 := 0) (s1 := 0) (rest := [.int 2, .int v8, .int v7]) hH hB (Nat.zero_le _) (Nat.zero_le _) (fun hf => zc_rSI X hH (x := ⟨"ChurchyardBook$Deep", "times", "(III)I"⟩) (As := [.int z2, .int v3, .int v4]) (wc_X10_times X.2.2.2.2.2.2.2.1 hF) q1558 q1577 q1578 rfl q1557 q115 ⟨by decide, rfl⟩ ⟨Nat.le_of_ble_eq_true rfl, Nat.le_of_ble_eq_true rfl, Nat.le_of_ble_eq_true rfl⟩ rfl hl.1 (st0 := [.int v4, .int v3, .int z2, .int 2, .int v8, .int v7]) rfl (Nat.le_of_ble_eq_true rfl) dX11_column_77 hf) (fun E9 ce9 q9 h9 H locs hx9 => False.elim hx9) (fun v9 h9 H locs hv9 hH hB => ?_)
        obtain ⟨z3, rfl, hF, rfl⟩ := hv9
        refine lv_imul hx hb dX11_column_80 ?_
        refine lv_iadd hx hb dX11_column_81 ?_
        refine zc_call (c1 := 0) (s1 := 0) (rest := []) hH hB (Nat.zero_le _) (Nat.zero_le _) (fun hf => zc_rS X hH (As := [.int v7, .int (v8 + (2 * z3))]) (wc_J6_max X.2.2.2.2.2.2.2.1 hF) (lw_S q1576 q396 q101 q397) ⟨by decide, by decide, rfl⟩ ⟨Nat.le_of_ble_eq_true rfl, Nat.le_of_ble_eq_true rfl, Nat.le_of_ble_eq_true rfl⟩ rfl hl.1 (st0 := [.int (v8 + (2 * z3)), .int v7]) rfl (Nat.le_of_ble_eq_true rfl) dX11_column_82 hf) (fun E9 ce9 q9 h9 H locs hx9 => False.elim hx9) (fun v9 h9 H locs hv9 hH hB => ?_)
        obtain ⟨z4, rfl, hF, rfl⟩ := hv9
        refine lv_istore (lv' := [(7, .int z4), (9, .int x1), (0, .ref o), (3, .int v3), (4, .int v4), (6, .int v6), (8, .int v8)]) hx hb dX11_column_85 hl (by decide) rfl (fun ls hl => ?_)
        obtain ⟨x5, ex5⟩ : ∃ z : Int32, z = v8 + 1 := ⟨_, rfl⟩
        have hF := hF x5 ex5
        refine lv_iinc (v := x5) (lv' := [(8, .int x5), (7, .int z4), (9, .int x1), (0, .ref o), (3, .int v3), (4, .int v4), (6, .int v6)]) hx hb dX11_column_87 hl (k := 6) rfl (by rw [ex5]; rfl) (by decide) rfl (fun ls hl => ?_)
        refine lv_goto (tgt := 42) hx hb dX11_column_90 (by decide) ?_
        exact ih h v3 v4 v6 z4 x5 x1 hF _ _ _ _ _ hB eh (lv_sub hl [3, 4, 5, 6, 1, 0, 2] rfl) hH
set_option maxHeartbeats 4000000 in
set_option maxRecDepth 100000 in
theorem wc_X11_column {l : Launch} {D : va_G} {cA : Nat → ClassId} {P : Nat → Prop} {G : Nat × Nat × Nat} {o : Nat} {Q : Int32 → Prop} {h : ZH} {C S : Nat} {v1 : Int32} {v2 : Int32} {v3 : Int32} {v4 : Int32} (hl9 : l.stackTraces = false) (hF : fc_X11_column G o Q h v1 v2 v3 v4) :
    zc_M l yX11_column (ws_ yX11_column cX11_column 10 (some .int)) 6 D cA P G [.ref o, .int v1, .int v2, .int v3, .int v4] h C S (fun v h' => ∃ z : Int32, v = some (.int z) ∧ Q z ∧ h = h') zc_no := by
  refine zc_ofF hl9 rfl (by decide +kernel) (Nat.le_of_ble_eq_true rfl) ?_
  intro p e s m args below meth c H locs ls X hN hT hH hl
  have hx := X.1
  have hb := X.2.1
  have hown := X.2.2.2.1
  have hts := X.2.2.2.2.1
  have hl : lv_has ls 10 [(0, .ref o), (1, .int v1), (2, .int v2), (3, .int v3), (4, .int v4)] := hl
  have hB : 0 + 0 ≤ C ∧ 0 + 0 ≤ S := ⟨by omega, by omega⟩
  have eh : h = h := rfl
  unfold fc_X11_column at hF
  refine lv_aload_n hx hb dX11_column_0 rfl (lv_at hl 0 rfl) ?_
  refine lv_iload_n hx hb dX11_column_1 rfl (lv_at hl 1 rfl) ?_
  refine lv_iconst (v := 0) hx hb dX11_column_2 (by decide) ?_
  refine lv_iload_n hx hb dX11_column_3 rfl (lv_at hl 2 rfl) ?_
  refine zc_call (c1 := 0) (s1 := 0) (rest := []) hH hB (Nat.zero_le _) (Nat.zero_le _) (fun hf => rv_opens_27 X hH q1571 hF ⟨Nat.le_of_ble_eq_true rfl, Nat.le_of_ble_eq_true rfl, Nat.le_of_ble_eq_true rfl⟩ hl.1 (st0 := [.int v2, .int 0, .int v1, .ref o]) rfl (Nat.le_of_ble_eq_true rfl) dX11_column_4 hf) (fun E9 ce9 q9 h9 H locs hx9 => False.elim hx9) (fun v9 h9 H locs hv9 hH hB => ?_)
  obtain ⟨z1, rfl, hF, rfl⟩ := hv9
  refine lv_istore (lv' := [(5, .int z1), (0, .ref o), (1, .int v1), (2, .int v2), (3, .int v3), (4, .int v4)]) hx hb dX11_column_7 hl (by decide) rfl (fun ls hl => ?_)
  refine lv_aload_n hx hb dX11_column_9 rfl (lv_at hl 1 rfl) ?_
  refine lv_iload_n hx hb dX11_column_10 rfl (lv_at hl 2 rfl) ?_
  refine lv_iconst (v := 1) hx hb dX11_column_11 (by decide) ?_
  refine lv_iload_n hx hb dX11_column_12 rfl (lv_at hl 3 rfl) ?_
  refine zc_call (c1 := 0) (s1 := 0) (rest := []) hH hB (Nat.zero_le _) (Nat.zero_le _) (fun hf => rv_opens_27 X hH q1571 hF ⟨Nat.le_of_ble_eq_true rfl, Nat.le_of_ble_eq_true rfl, Nat.le_of_ble_eq_true rfl⟩ hl.1 (st0 := [.int v2, .int 1, .int v1, .ref o]) rfl (Nat.le_of_ble_eq_true rfl) dX11_column_13 hf) (fun E9 ce9 q9 h9 H locs hx9 => False.elim hx9) (fun v9 h9 H locs hv9 hH hB => ?_)
  obtain ⟨z2, rfl, hF, rfl⟩ := hv9
  refine lv_istore (lv' := [(6, .int z2), (5, .int z1), (0, .ref o), (1, .int v1), (2, .int v2), (3, .int v3), (4, .int v4)]) hx hb dX11_column_16 hl (by decide) rfl (fun ls hl => ?_)
  refine lv_iconst (v := 2) hx hb dX11_column_18 (by decide) ?_
  refine lv_iload hx hb dX11_column_19 (lv_at hl 1 rfl) ?_
  refine lv_iload hx hb dX11_column_21 (lv_at hl 0 rfl) ?_
  refine zc_call (c1 := 0) (s1 := 0) (rest := [.int 2]) hH hB (Nat.zero_le _) (Nat.zero_le _) (fun hf => zc_rS X hH (As := [.int z1, .int z2]) (wc_J6_max X.2.2.2.2.2.2.2.1 hF) (lw_S q1576 q396 q101 q397) ⟨by decide, by decide, rfl⟩ ⟨Nat.le_of_ble_eq_true rfl, Nat.le_of_ble_eq_true rfl, Nat.le_of_ble_eq_true rfl⟩ rfl hl.1 (st0 := [.int z2, .int z1, .int 2]) rfl (Nat.le_of_ble_eq_true rfl) dX11_column_23 hf) (fun E9 ce9 q9 h9 H locs hx9 => False.elim hx9) (fun v9 h9 H locs hv9 hH hB => ?_)
  obtain ⟨z3, rfl, hF, rfl⟩ := hv9
  refine lv_iload_n hx hb dX11_column_26 rfl (lv_at hl 5 rfl) ?_
  refine lv_iload hx hb dX11_column_27 (lv_at hl 6 rfl) ?_
  refine zc_call (c1 := 0) (s1 := 0) (rest := [.int 2]) hH hB (Nat.zero_le _) (Nat.zero_le _) (fun hf => zc_rSI X hH (x := ⟨"ChurchyardBook$Deep", "times", "(III)I"⟩) (As := [.int z3, .int v3, .int v4]) (wc_X10_times X.2.2.2.2.2.2.2.1 hF) q1558 q1577 q1578 rfl q1557 q115 ⟨by decide, rfl⟩ ⟨Nat.le_of_ble_eq_true rfl, Nat.le_of_ble_eq_true rfl, Nat.le_of_ble_eq_true rfl⟩ rfl hl.1 (st0 := [.int v4, .int v3, .int z3, .int 2]) rfl (Nat.le_of_ble_eq_true rfl) dX11_column_29 hf) (fun E9 ce9 q9 h9 H locs hx9 => False.elim hx9) (fun v9 h9 H locs hv9 hH hB => ?_)
  obtain ⟨z4, rfl, hF, rfl⟩ := hv9
  refine lv_imul hx hb dX11_column_32 ?_
  refine lv_topi (fun x5 ex5 => ?_)
  have hF := hF x5 ex5
  refine lv_istore (lv' := [(7, .int x5), (6, .int z2), (5, .int z1), (0, .ref o), (1, .int v1), (2, .int v2), (3, .int v3), (4, .int v4)]) hx hb dX11_column_33 hl (by decide) rfl (fun ls hl => ?_)
  refine lv_iconst (v := 1) hx hb dX11_column_35 (by decide) ?_
  refine lv_istore (lv' := [(8, .int 1), (7, .int x5), (6, .int z2), (5, .int z1), (0, .ref o), (1, .int v1), (2, .int v2), (3, .int v3), (4, .int v4)]) hx hb dX11_column_36 hl (by decide) rfl (fun ls hl => ?_)
  refine lv_iload hx hb dX11_column_38 (lv_at hl 3 rfl) ?_
  refine lv_istore (lv' := [(9, .int z1), (8, .int 1), (7, .int x5), (6, .int z2), (5, .int z1), (0, .ref o), (1, .int v1), (2, .int v2), (3, .int v3), (4, .int v4)]) hx hb dX11_column_40 hl (by decide) rfl (fun ls hl => ?_)
  obtain ⟨n9, hF⟩ := hF
  exact wc_X11_column_42 X hN hT n9 h v3 v4 z2 x5 1 z1 hF _ _ _ _ _ hB eh (lv_sub hl [5, 8, 9, 3, 2, 1, 0] rfl) hH
set_option maxHeartbeats 1000000 in
theorem rv_column_29 {p : Program} {l : Launch} {e : Env} {R : Room} {s : State} {m : MethodId} {args : Array Value} {below : List Frame} {meth : Method} {c : Code} {H : Heap} {locs : List Loc} {cells slots : Nat} {cc : ByteArray} {nL pc : Nat} {ret : Option FieldType} {own : String} {ls : Array Slot} {rest : List Value} {D : va_G} {cA : Nat → ClassId} {P : Nat → Prop} {G : Nat × Nat × Nat} {h : ZH} {C S a idx : Nat} {Q : Int32 → Prop} {v1 : Int32} {v2 : Int32} {v3 : Int32} {v4 : Int32} (X : zc_Cx p l s m args meth c cc nL ret own D cA P G) (hH : zc_H D cA P h s H locs) (hlk : Cond.methodLink own idx ⟨"ChurchyardBook$Deep", "column", "(IIII)I"⟩ ∈ lw_all) (hF : fv_column_29 G a Q h v1 v2 v3 v4) (hR : zc_rm R 6 11) (hsize : ls.size = nL) {st0 : List Value} (hst : st0 = ([.int v1, .int v2, .int v3, .int v4] : List Value).reverse ++ .ref a :: rest) (hcat : (rest.map fun v => v.category).sum ≤ 8) (hdg : decode cc pc = .ok (.invokevirtual idx, 3)) (hf : cells + C ≤ R.cells ∧ slots + S ≤ R.slots) :
    vx_Run p l e R s m args below meth c H locs cells slots C S (F0 m pc ls st0) rest (zc_Q D cA P (fun v h' => ∃ z : Int32, v = some (.int z) ∧ Q z ∧ h = h') (Value.ref a :: [.int v1, .int v2, .int v3, .int v4]).toArray) (zc_X D cA P zc_no) P := by
  unfold fv_column_29 at hF
  have hR9 := hR
  obtain ⟨hc, hF⟩ := hF
  simp only [List.mem_cons, List.not_mem_nil, or_false] at hc
  rcases hc with hc | hc
  · have hF := hF (by rw [hc]; decide)
    exact zc_rV X hH hc (by decide) rfl (As := [.int v1, .int v2, .int v3, .int v4]) (wc_X11_column X.2.2.2.2.2.2.2.1 hF) (lw_V hlk q1569 qs24 q116 q1570) ⟨rfl, by decide, by decide, rfl⟩ (zc_rm_le hR9 (by decide) (by decide)) rfl hsize hst hcat hdg hf
  · have hF := hF (by rw [hc]; decide)
    exact zc_rU X hH hc (by decide) rfl (owner := "ChurchyardBook$Deep") (x := ⟨"ChurchyardBook$Deep", "column", "(IIII)I"⟩) (As := [.int v1, .int v2, .int v3, .int v4]) (wc_X11_column X.2.2.2.2.2.2.2.1 hF) (lw_meth q1570) (X.2.2.2.2.1 _ hlk) (X.2.2.2.2.1 _ q2240) (zc_declC X q1569 q1570) (zc_gdat X.2.2.2.2.2.2.2.2 _ (by decide +kernel)) q1569 q116 ⟨by decide, by decide, rfl⟩ (zc_rm_le hR9 (by decide) (by decide)) rfl hsize hst hcat hdg hf
set_option maxHeartbeats 4000000 in
set_option maxRecDepth 100000 in
theorem wc_X11_plan_6 {p : Program} {l : Launch} {e : Env} {s : State} {m : MethodId} {args : Array Value} {below : List Frame} {meth : Method} {c : Code} {D : va_G} {cA : Nat → ClassId} {P : Nat → Prop} {G : Nat × Nat × Nat} {C S : Nat} {o : Nat} {Q : Int32 → Prop} {h0 : ZH} (X : zc_Cx p l s m args meth c cX11_plan 6 (some .int) "ChurchyardBook$Deep" D cA P G) (hN : meth.name = "plan") (hT : c.exceptionTable.toList = tableOf []) :
    ∀ (n : Nat) (h : ZH) (v1 : Int32) (v2 : Int32) (v3 : Int32) (v4 : Int32) (v5 : Int32), fc_X11_plan_6 G o Q n h v1 v2 v3 v4 v5 → ∀ (H : Heap) (locs : List Loc) (ls : Array Slot) (cells slots : Nat), cells + 0 ≤ C ∧ slots + 0 ≤ S → h0 = h → lv_has ls 6 [(0, .ref o), (1, .int v1), (2, .int v2), (3, .int v3), (4, .int v4), (5, .int v5)] → zc_H D cA P h s H locs → W p l e (zc_Ro 7 C S) s m args below meth c H locs cells slots (vx_MQ below (zc_Q D cA P (fun v h' => ∃ z : Int32, v = some (.int z) ∧ Q z ∧ h0 = h')) (zc_X D cA P zc_no) args s C S P) (F0 m 6 ls []) := by
  have hx := X.1
  have hb := X.2.1
  have hown := X.2.2.2.1
  have hts := X.2.2.2.2.1
  intro n
  induction n with
  | zero =>
    intro h v1 v2 v3 v4 v5 hF
    exact False.elim hF
  | succ n ih =>
    intro h v1 v2 v3 v4 v5 hF
    intro H locs ls cells slots hB eh hl hH
    unfold fc_X11_plan_6 at hF
    refine lv_iload hx hb dX11_plan_6 (lv_at hl 5 rfl) ?_
    refine lv_aload_n hx hb dX11_plan_8 rfl (lv_at hl 0 rfl) ?_
    refine zc_call (c1 := 0) (s1 := 0) (rest := [.int v5]) hH hB (Nat.zero_le _) (Nat.zero_le _) (fun hf => rv_columns_28 X hH q1562 hF ⟨Nat.le_of_ble_eq_true rfl, Nat.le_of_ble_eq_true rfl, Nat.le_of_ble_eq_true rfl⟩ hl.1 (st0 := [.ref o, .int v5]) rfl (Nat.le_of_ble_eq_true rfl) dX11_plan_9 hf) (fun E9 ce9 q9 h9 H locs hx9 => False.elim hx9) (fun v9 h9 H locs hv9 hH hB => ?_)
    obtain ⟨z1, rfl, hF, rfl⟩ := hv9
    refine lv_icmp_ge (tgt := 35) hx hb dX11_plan_12 (by decide) (fun cd => ?_) (fun cd => ?_)
    · have hF := hF.1 cd
      refine lv_iload hx hb dX11_plan_35 (lv_at hl 4 rfl) ?_
      exact zc_iret X hH hB rfl rfl ⟨_, rfl, hF, eh⟩ dX11_plan_37
    · have hF := hF.2 cd
      refine lv_iload hx hb dX11_plan_15 (lv_at hl 4 rfl) ?_
      refine lv_aload_n hx hb dX11_plan_17 rfl (lv_at hl 0 rfl) ?_
      refine lv_iload hx hb dX11_plan_18 (lv_at hl 5 rfl) ?_
      refine lv_iload_n hx hb dX11_plan_20 rfl (lv_at hl 1 rfl) ?_
      refine lv_iload_n hx hb dX11_plan_21 rfl (lv_at hl 2 rfl) ?_
      refine lv_iload_n hx hb dX11_plan_22 rfl (lv_at hl 3 rfl) ?_
      refine zc_call (c1 := 0) (s1 := 0) (rest := [.int v4]) hH hB (Nat.zero_le _) (Nat.zero_le _) (fun hf => rv_column_29 X hH q1567 hF ⟨Nat.le_of_ble_eq_true rfl, Nat.le_of_ble_eq_true rfl, Nat.le_of_ble_eq_true rfl⟩ hl.1 (st0 := [.int v3, .int v2, .int v1, .int v5, .ref o, .int v4]) rfl (Nat.le_of_ble_eq_true rfl) dX11_plan_23 hf) (fun E9 ce9 q9 h9 H locs hx9 => False.elim hx9) (fun v9 h9 H locs hv9 hH hB => ?_)
      obtain ⟨z2, rfl, hF, rfl⟩ := hv9
      refine lv_iadd hx hb dX11_plan_26 ?_
      refine lv_topi (fun x3 ex3 => ?_)
      have hF := hF x3 ex3
      refine lv_istore (lv' := [(4, .int x3), (0, .ref o), (1, .int v1), (2, .int v2), (3, .int v3), (5, .int v5)]) hx hb dX11_plan_27 hl (by decide) rfl (fun ls hl => ?_)
      obtain ⟨x4, ex4⟩ : ∃ z : Int32, z = v5 + 1 := ⟨_, rfl⟩
      have hF := hF x4 ex4
      refine lv_iinc (v := x4) (lv' := [(5, .int x4), (4, .int x3), (0, .ref o), (1, .int v1), (2, .int v2), (3, .int v3)]) hx hb dX11_plan_29 hl (k := 5) rfl (by rw [ex4]; rfl) (by decide) rfl (fun ls hl => ?_)
      refine lv_goto (tgt := 6) hx hb dX11_plan_32 (by decide) ?_
      exact ih h v1 v2 v3 x3 x4 hF _ _ _ _ _ hB eh (lv_sub hl [2, 3, 4, 5, 1, 0] rfl) hH
set_option maxHeartbeats 4000000 in
set_option maxRecDepth 100000 in
theorem wc_X11_plan {l : Launch} {D : va_G} {cA : Nat → ClassId} {P : Nat → Prop} {G : Nat × Nat × Nat} {o : Nat} {Q : Int32 → Prop} {h : ZH} {C S : Nat} {v1 : Int32} {v2 : Int32} {v3 : Int32} (hl9 : l.stackTraces = false) (hF : fc_X11_plan G o Q h v1 v2 v3) :
    zc_M l yX11_plan (ws_ yX11_plan cX11_plan 6 (some .int)) 7 D cA P G [.ref o, .int v1, .int v2, .int v3] h C S (fun v h' => ∃ z : Int32, v = some (.int z) ∧ Q z ∧ h = h') zc_no := by
  refine zc_ofF hl9 rfl (by decide +kernel) (Nat.le_of_ble_eq_true rfl) ?_
  intro p e s m args below meth c H locs ls X hN hT hH hl
  have hx := X.1
  have hb := X.2.1
  have hown := X.2.2.2.1
  have hts := X.2.2.2.2.1
  have hl : lv_has ls 6 [(0, .ref o), (1, .int v1), (2, .int v2), (3, .int v3)] := hl
  have hB : 0 + 0 ≤ C ∧ 0 + 0 ≤ S := ⟨by omega, by omega⟩
  have eh : h = h := rfl
  unfold fc_X11_plan at hF
  refine lv_iconst (v := 0) hx hb dX11_plan_0 (by decide) ?_
  refine lv_istore (lv' := [(4, .int 0), (0, .ref o), (1, .int v1), (2, .int v2), (3, .int v3)]) hx hb dX11_plan_1 hl (by decide) rfl (fun ls hl => ?_)
  refine lv_iconst (v := 0) hx hb dX11_plan_3 (by decide) ?_
  refine lv_istore (lv' := [(5, .int 0), (4, .int 0), (0, .ref o), (1, .int v1), (2, .int v2), (3, .int v3)]) hx hb dX11_plan_4 hl (by decide) rfl (fun ls hl => ?_)
  obtain ⟨n9, hF⟩ := hF
  exact wc_X11_plan_6 X hN hT n9 h v1 v2 v3 0 0 hF _ _ _ _ _ hB eh (lv_sub hl [2, 3, 4, 5, 1, 0] rfl) hH
