/-! THE COMPONENT SIDE: the walks, printed by gen_comp.py -/
set_option maxRecDepth 100000
set_option maxHeartbeats 4000000 in
set_option maxRecDepth 100000 in
theorem wc_X5_paid {l : Launch} {D : va_G} {cA : Nat → ClassId} {P : Nat → Prop} {G : Nat × Nat × Nat} {o : Nat} {Q : Int32 → ZH → Prop} {h : ZH} {C S : Nat} {v1 : Int32} (hl9 : l.stackTraces = false) (hF : fc_X5_paid G o Q h v1) :
    zc_M l yX5_paid (ws_ yX5_paid cX5_paid 2 (some .int)) 1 D cA P G [.ref o, .int v1] h C S (fun v h' => ∃ z : Int32, v = some (.int z) ∧ Q z h') zc_no := by
  refine zc_ofF hl9 rfl (by decide +kernel) (Nat.le_of_ble_eq_true rfl) ?_
  intro p e s m args below meth c H locs ls X hN hT hH hl
  have hx := X.1
  have hb := X.2.1
  have hown := X.2.2.2.1
  have hts := X.2.2.2.2.1
  have hl : lv_has ls 2 [(0, .ref o), (1, .int v1)] := hl
  have hB : 0 + 0 ≤ C ∧ 0 + 0 ≤ S := ⟨by omega, by omega⟩
  unfold fc_X5_paid at hF
  refine lv_aload_n hx hb dX5_paid_0 rfl (lv_at hl 0 rfl) ?_
  refine lv_dup hx hb dX5_paid_1 rfl ?_
  obtain ⟨hc, hF⟩ := hF
  refine zc_getf X hH hc 4 204 ("ChurchyardBook$Book", "prices", "I", false) (by decide +kernel) (v := .int (zi h 204 o)) rfl q196 (Or.inl rfl) dX5_paid_2 ?_
  refine lv_iload_n hx hb dX5_paid_5 rfl (lv_at hl 1 rfl) ?_
  refine lv_iadd hx hb dX5_paid_6 ?_
  obtain ⟨hc, hF⟩ := hF
  refine zc_puti X hH hc 4 204 ("ChurchyardBook$Book", "prices", "I", false) (by decide +kernel) rfl q196 (Or.inl rfl) (ty := .int) (by decide +kernel) rfl rfl (Or.inl rfl) dX5_paid_7 (fun h1 H locs eh1 hH => ?_)
  have hF := hF h1 eh1
  refine lv_iload_n hx hb dX5_paid_10 rfl (lv_at hl 1 rfl) ?_
  exact zc_iret X hH hB rfl rfl ⟨_, rfl, hF⟩ dX5_paid_11
set_option maxHeartbeats 4000000 in
set_option maxRecDepth 100000 in
theorem wc_X5_right_83 {p : Program} {l : Launch} {e : Env} {s : State} {m : MethodId} {args : Array Value} {below : List Frame} {meth : Method} {c : Code} {D : va_G} {cA : Nat → ClassId} {P : Nat → Prop} {G : Nat × Nat × Nat} {C S : Nat} {o : Nat} {Q : Int32 → ZH → Prop} {XE : String → Nat → ZH → Prop} (X : zc_Cx p l s m args meth c cX5_right 6 (some .int) "ChurchyardBook$Book" D cA P G) (hN : meth.name = "right") (hT : c.exceptionTable.toList = tableOf []) :
    ∀ (h : ZH) (bc bs : Nat) (v3 : Int32) (q4 : Option Nat) (q5 : Option Nat) (t0 : Int32), fc_X5_right_83 G o Q XE h bc bs v3 q4 q5 t0 → ∀ (H : Heap) (locs : List Loc) (ls : Array Slot) (cells slots : Nat), cells + bc ≤ C ∧ slots + bs ≤ S → lv_has ls 6 [(0, .ref o), (3, .int v3), (4, va_rf q4), (5, va_rf q5)] → zc_H D cA P h s H locs → W p l e (zc_Ro 5 C S) s m args below meth c H locs cells slots (vx_MQ below (zc_Q D cA P (fun v h' => ∃ z : Int32, v = some (.int z) ∧ Q z h')) (zc_X D cA P XE) args s C S P) (F0 m 83 ls [.int t0]) := by
  have hx := X.1
  have hb := X.2.1
  have hown := X.2.2.2.1
  have hts := X.2.2.2.2.1
  intro h bc bs v3 q4 q5 t0 hF
  intro H locs ls cells slots hB hl hH
  unfold fc_X5_right_83 at hF
  refine lv_bipush (v := (-3)) hx hb dX5_right_83 (by decide) ?_
  obtain ⟨c1, s2, hc1, hs1, hF⟩ := hF
  refine zc_call (c1 := c1) (s1 := s2) (rest := []) hH hB hc1 hs1 (fun hf => zc_rSN X hH (As := [.int t0, .int (-3)]) (host := "ChurchyardBook") (wc_X1_need X.2.2.2.2.2.2.2.1 hF) (lw_meth q265) (by decide +kernel) q87 q264 ⟨by decide, by decide, rfl⟩ ⟨Nat.le_of_ble_eq_true rfl, Nat.le_of_ble_eq_true rfl, Nat.le_of_ble_eq_true rfl⟩ rfl hl.1 (st0 := [.int (-3), .int t0]) rfl (Nat.le_of_ble_eq_true rfl) dX5_right_85 hf) (fun E9 ce9 q3 h4 H locs hx9 hH hB hce hcv hcl => ?_) (fun v9 h9 H locs hv9 hH hB => ?_)
  · exact zc_out X hH hB (by rw [hT]; intro x hx9; cases hx9) hce hcv hcl hx9
  obtain ⟨rfl, hF, rfl⟩ := hv9
  refine zq_aload hx hb dX5_right_88 (lv_at hl 2 rfl) ?_
  refine zq_aload hx hb dX5_right_90 (lv_at hl 3 rfl) ?_
  obtain ⟨b5, eb5, hF⟩ := hF
  refine zq_st (st2 := [va_rf q5, .ref b5]) (by rw [eb5]; first | done | rfl) ?_
  refine zc_call (c1 := 0) (s1 := 0) (rest := []) hH hB (Nat.zero_le _) (Nat.zero_le _) (fun hf => rv_hold_1 X hH q969 hF ⟨Nat.le_of_ble_eq_true rfl, Nat.le_of_ble_eq_true rfl, Nat.le_of_ble_eq_true rfl⟩ hl.1 (st0 := [va_rf q5, .ref b5]) rfl (Nat.le_of_ble_eq_true rfl) dX5_right_92 hf) (fun E9 ce9 q9 h9 H locs hx9 => False.elim hx9) (fun v9 h6 H locs hv9 hH hB => ?_)
  obtain ⟨rfl, hF⟩ := hv9
  refine zq_aload hx hb dX5_right_95 (lv_at hl 2 rfl) ?_
  refine lv_aload_n hx hb dX5_right_97 rfl (lv_at hl 0 rfl) ?_
  obtain ⟨hc, hF⟩ := hF
  refine zc_getf X hH hc 3 203 ("ChurchyardBook$Book", "today", "I", false) (by decide +kernel) (v := .int (zi h6 203 o)) rfl q194 (Or.inl rfl) dX5_right_98 ?_
  refine lv_sipush (v := 365) hx hb dX5_right_101 (by decide) ?_
  refine lv_iload_n hx hb dX5_right_104 rfl (lv_at hl 1 rfl) ?_
  refine lv_imul hx hb dX5_right_105 ?_
  refine lv_iadd hx hb dX5_right_106 ?_
  refine zq_st (st2 := [.int ((zi h6 203 o) + (365 * v3)), .ref b5]) (by rw [eb5]; first | done | rfl) ?_
  obtain ⟨hc, hF⟩ := hF
  refine zc_puti X hH hc 8 608 ("ChurchyardBook$Grave", "to", "I", false) (by decide +kernel) rfl q678 (Or.inl rfl) (ty := .int) (by decide +kernel) rfl rfl (Or.inl rfl) dX5_right_107 (fun h7 H locs eh7 hH => ?_)
  have hF := hF h7 eh7
  refine lv_aload_n hx hb dX5_right_110 rfl (lv_at hl 0 rfl) ?_
  refine zq_aload hx hb dX5_right_111 (lv_at hl 2 rfl) ?_
  refine zq_st (st2 := [.ref b5, .ref o]) (by rw [eb5]; first | done | rfl) ?_
  refine zc_call (c1 := 0) (s1 := 0) (rest := [.ref o]) hH hB (Nat.zero_le _) (Nat.zero_le _) (fun hf => rv_yearly_2 X hH q983 hF ⟨Nat.le_of_ble_eq_true rfl, Nat.le_of_ble_eq_true rfl, Nat.le_of_ble_eq_true rfl⟩ hl.1 (st0 := [.ref b5, .ref o]) rfl (Nat.le_of_ble_eq_true rfl) dX5_right_113 hf) (fun E9 ce9 q9 h9 H locs hx9 => False.elim hx9) (fun v9 h9 H locs hv9 hH hB => ?_)
  obtain ⟨z8, rfl, hF, rfl⟩ := hv9
  refine lv_iload_n hx hb dX5_right_116 rfl (lv_at hl 1 rfl) ?_
  refine lv_imul hx hb dX5_right_117 ?_
  obtain ⟨hc, hF⟩ := hF
  refine zc_call (c1 := 0) (s1 := 0) (rest := []) hH hB (Nat.zero_le _) (Nat.zero_le _) (fun hf => zc_rV X hH hc (by decide) rfl (As := [.int (z8 * v3)]) (wc_X5_paid X.2.2.2.2.2.2.2.1 hF) (lw_V q998 q1000 qs10 q91 q1001) ⟨rfl, by decide, by decide, rfl⟩ ⟨Nat.le_of_ble_eq_true rfl, Nat.le_of_ble_eq_true rfl, Nat.le_of_ble_eq_true rfl⟩ rfl hl.1 (st0 := [.int (z8 * v3), .ref o]) rfl (Nat.le_of_ble_eq_true rfl) dX5_right_118 hf) (fun E9 ce9 q9 h9 H locs hx9 => False.elim hx9) (fun v9 h10 H locs hv9 hH hB => ?_)
  obtain ⟨z9, rfl, hF⟩ := hv9
  exact zc_iret X hH hB rfl rfl ⟨_, rfl, hF⟩ dX5_right_121
set_option maxHeartbeats 4000000 in
set_option maxRecDepth 100000 in
theorem wc_X5_right_65 {p : Program} {l : Launch} {e : Env} {s : State} {m : MethodId} {args : Array Value} {below : List Frame} {meth : Method} {c : Code} {D : va_G} {cA : Nat → ClassId} {P : Nat → Prop} {G : Nat × Nat × Nat} {C S : Nat} {o : Nat} {Q : Int32 → ZH → Prop} {XE : String → Nat → ZH → Prop} (X : zc_Cx p l s m args meth c cX5_right 6 (some .int) "ChurchyardBook$Book" D cA P G) (hN : meth.name = "right") (hT : c.exceptionTable.toList = tableOf []) :
    ∀ (h : ZH) (bc bs : Nat) (v3 : Int32) (q4 : Option Nat) (q5 : Option Nat) (t0 : Int32), fc_X5_right_65 G o Q XE h bc bs v3 q4 q5 t0 → ∀ (H : Heap) (locs : List Loc) (ls : Array Slot) (cells slots : Nat), cells + bc ≤ C ∧ slots + bs ≤ S → lv_has ls 6 [(0, .ref o), (3, .int v3), (4, va_rf q4), (5, va_rf q5)] → zc_H D cA P h s H locs → W p l e (zc_Ro 5 C S) s m args below meth c H locs cells slots (vx_MQ below (zc_Q D cA P (fun v h' => ∃ z : Int32, v = some (.int z) ∧ Q z h')) (zc_X D cA P XE) args s C S P) (F0 m 65 ls [.int t0]) := by
  have hx := X.1
  have hb := X.2.1
  have hown := X.2.2.2.1
  have hts := X.2.2.2.2.1
  intro h bc bs v3 q4 q5 t0 hF
  intro H locs ls cells slots hB hl hH
  unfold fc_X5_right_65 at hF
  refine lv_bipush (v := (-2)) hx hb dX5_right_65 (by decide) ?_
  obtain ⟨c1, s2, hc1, hs1, hF⟩ := hF
  refine zc_call (c1 := c1) (s1 := s2) (rest := []) hH hB hc1 hs1 (fun hf => zc_rSN X hH (As := [.int t0, .int (-2)]) (host := "ChurchyardBook") (wc_X1_need X.2.2.2.2.2.2.2.1 hF) (lw_meth q265) (by decide +kernel) q87 q264 ⟨by decide, by decide, rfl⟩ ⟨Nat.le_of_ble_eq_true rfl, Nat.le_of_ble_eq_true rfl, Nat.le_of_ble_eq_true rfl⟩ rfl hl.1 (st0 := [.int (-2), .int t0]) rfl (Nat.le_of_ble_eq_true rfl) dX5_right_67 hf) (fun E9 ce9 q3 h4 H locs hx9 hH hB hce hcv hcl => ?_) (fun v9 h9 H locs hv9 hH hB => ?_)
  · exact zc_out X hH hB (by rw [hT]; intro x hx9; cases hx9) hce hcv hcl hx9
  obtain ⟨rfl, hF, rfl⟩ := hv9
  refine zq_aload hx hb dX5_right_70 (lv_at hl 3 rfl) ?_
  obtain ⟨b5, eb5, hF⟩ := hF
  refine zq_st (st2 := [.ref b5]) (by rw [eb5]; first | done | rfl) ?_
  obtain ⟨hc, hF⟩ := hF
  refine zc_getf X hH hc 2 702 ("ChurchyardBook$Person", "isDead", "Z", false) (by decide +kernel) (v := .int (zi h 702 b5)) rfl q868 (Or.inl rfl) dX5_right_72 ?_
  refine lv_if_ne (tgt := 82) hx hb dX5_right_75 (by decide) (fun cd => ?_) (fun cd => ?_)
  · have hF := hF.1 cd
    refine lv_iconst (v := 0) hx hb dX5_right_82 (by decide) ?_
    exact wc_X5_right_83 X hN hT h (bc - c1) (bs - s2) v3 q4 q5 0 hF _ _ _ _ _ hB (lv_sub hl [0, 1, 2, 3] rfl) hH
  · have hF := hF.2 cd
    refine lv_iconst (v := 1) hx hb dX5_right_78 (by decide) ?_
    refine lv_goto (tgt := 83) hx hb dX5_right_79 (by decide) ?_
    exact wc_X5_right_83 X hN hT h (bc - c1) (bs - s2) v3 q4 q5 1 hF _ _ _ _ _ hB (lv_sub hl [0, 1, 2, 3] rfl) hH
set_option maxHeartbeats 4000000 in
set_option maxRecDepth 100000 in
theorem wc_X5_right_64 {p : Program} {l : Launch} {e : Env} {s : State} {m : MethodId} {args : Array Value} {below : List Frame} {meth : Method} {c : Code} {D : va_G} {cA : Nat → ClassId} {P : Nat → Prop} {G : Nat × Nat × Nat} {C S : Nat} {o : Nat} {Q : Int32 → ZH → Prop} {XE : String → Nat → ZH → Prop} (X : zc_Cx p l s m args meth c cX5_right 6 (some .int) "ChurchyardBook$Book" D cA P G) (hN : meth.name = "right") (hT : c.exceptionTable.toList = tableOf []) :
    ∀ (h : ZH) (bc bs : Nat) (v3 : Int32) (q4 : Option Nat) (q5 : Option Nat), fc_X5_right_64 G o Q XE h bc bs v3 q4 q5 → ∀ (H : Heap) (locs : List Loc) (ls : Array Slot) (cells slots : Nat), cells + bc ≤ C ∧ slots + bs ≤ S → lv_has ls 6 [(0, .ref o), (3, .int v3), (4, va_rf q4), (5, va_rf q5)] → zc_H D cA P h s H locs → W p l e (zc_Ro 5 C S) s m args below meth c H locs cells slots (vx_MQ below (zc_Q D cA P (fun v h' => ∃ z : Int32, v = some (.int z) ∧ Q z h')) (zc_X D cA P XE) args s C S P) (F0 m 64 ls []) := by
  have hx := X.1
  have hb := X.2.1
  have hown := X.2.2.2.1
  have hts := X.2.2.2.2.1
  intro h bc bs v3 q4 q5 hF
  intro H locs ls cells slots hB hl hH
  unfold fc_X5_right_64 at hF
  refine lv_iconst (v := 0) hx hb dX5_right_64 (by decide) ?_
  exact wc_X5_right_65 X hN hT h bc bs v3 q4 q5 0 hF _ _ _ _ _ hB (lv_sub hl [0, 1, 2, 3] rfl) hH
set_option maxHeartbeats 4000000 in
set_option maxRecDepth 100000 in
theorem wc_X5_right_40 {p : Program} {l : Launch} {e : Env} {s : State} {m : MethodId} {args : Array Value} {below : List Frame} {meth : Method} {c : Code} {D : va_G} {cA : Nat → ClassId} {P : Nat → Prop} {G : Nat × Nat × Nat} {C S : Nat} {o : Nat} {Q : Int32 → ZH → Prop} {XE : String → Nat → ZH → Prop} (X : zc_Cx p l s m args meth c cX5_right 6 (some .int) "ChurchyardBook$Book" D cA P G) (hN : meth.name = "right") (hT : c.exceptionTable.toList = tableOf []) :
    ∀ (h : ZH) (bc bs : Nat) (v3 : Int32) (q4 : Option Nat) (q5 : Option Nat) (t0 : Int32), fc_X5_right_40 G o Q XE h bc bs v3 q4 q5 t0 → ∀ (H : Heap) (locs : List Loc) (ls : Array Slot) (cells slots : Nat), cells + bc ≤ C ∧ slots + bs ≤ S → lv_has ls 6 [(0, .ref o), (3, .int v3), (4, va_rf q4), (5, va_rf q5)] → zc_H D cA P h s H locs → W p l e (zc_Ro 5 C S) s m args below meth c H locs cells slots (vx_MQ below (zc_Q D cA P (fun v h' => ∃ z : Int32, v = some (.int z) ∧ Q z h')) (zc_X D cA P XE) args s C S P) (F0 m 40 ls [.int t0]) := by
  have hx := X.1
  have hb := X.2.1
  have hown := X.2.2.2.1
  have hts := X.2.2.2.2.1
  intro h bc bs v3 q4 q5 t0 hF
  intro H locs ls cells slots hB hl hH
  unfold fc_X5_right_40 at hF
  refine lv_iconst (v := (-1)) hx hb dX5_right_40 (by decide) ?_
  obtain ⟨c1, s2, hc1, hs1, hF⟩ := hF
  refine zc_call (c1 := c1) (s1 := s2) (rest := []) hH hB hc1 hs1 (fun hf => zc_rSN X hH (As := [.int t0, .int (-1)]) (host := "ChurchyardBook") (wc_X1_need X.2.2.2.2.2.2.2.1 hF) (lw_meth q265) (by decide +kernel) q87 q264 ⟨by decide, by decide, rfl⟩ ⟨Nat.le_of_ble_eq_true rfl, Nat.le_of_ble_eq_true rfl, Nat.le_of_ble_eq_true rfl⟩ rfl hl.1 (st0 := [.int (-1), .int t0]) rfl (Nat.le_of_ble_eq_true rfl) dX5_right_41 hf) (fun E9 ce9 q3 h4 H locs hx9 hH hB hce hcv hcl => ?_) (fun v9 h9 H locs hv9 hH hB => ?_)
  · exact zc_out X hH hB (by rw [hT]; intro x hx9; cases hx9) hce hcv hcl hx9
  obtain ⟨rfl, hF, rfl⟩ := hv9
  refine zq_aload hx hb dX5_right_44 (lv_at hl 2 rfl) ?_
  obtain ⟨b5, eb5, hF⟩ := hF
  refine zq_st (st2 := [.ref b5]) (by rw [eb5]; first | done | rfl) ?_
  obtain ⟨hc, hF⟩ := hF
  refine zc_getf X hH hc 6 606 ("ChurchyardBook$Grave", "state", "I", false) (by decide +kernel) (v := .int (zi h 606 b5)) rfl q672 (Or.inl rfl) dX5_right_46 ?_
  refine lv_if_ne (tgt := 64) hx hb dX5_right_49 (by decide) (fun cd => ?_) (fun cd => ?_)
  · have hF := hF.1 cd
    exact wc_X5_right_64 X hN hT h (bc - c1) (bs - s2) v3 q4 q5 hF _ _ _ _ _ hB (lv_sub hl [0, 1, 2, 3] rfl) hH
  · have hF := hF.2 cd
    refine zq_aload hx hb dX5_right_52 (lv_at hl 2 rfl) ?_
    refine zq_st (st2 := [.ref b5]) (by rw [eb5]; first | done | rfl) ?_
    refine zc_call (c1 := 0) (s1 := 0) (rest := []) hH hB (Nat.zero_le _) (Nat.zero_le _) (fun hf => rv_needsHolder_3 X hH q957 hF ⟨Nat.le_of_ble_eq_true rfl, Nat.le_of_ble_eq_true rfl, Nat.le_of_ble_eq_true rfl⟩ hl.1 (st0 := [.ref b5]) rfl (Nat.le_of_ble_eq_true rfl) dX5_right_54 hf) (fun E9 ce9 q9 h9 H locs hx9 => False.elim hx9) (fun v9 h9 H locs hv9 hH hB => ?_)
    obtain ⟨z6, rfl, hF, rfl⟩ := hv9
    refine lv_if_eq (tgt := 64) hx hb dX5_right_57 (by decide) (fun cd => ?_) (fun cd => ?_)
    · have hF := hF.1 cd
      exact wc_X5_right_64 X hN hT h (bc - c1) (bs - s2) v3 q4 q5 hF _ _ _ _ _ hB (lv_sub hl [0, 1, 2, 3] rfl) hH
    · have hF := hF.2 cd
      refine lv_iconst (v := 1) hx hb dX5_right_60 (by decide) ?_
      refine lv_goto (tgt := 65) hx hb dX5_right_61 (by decide) ?_
      exact wc_X5_right_65 X hN hT h (bc - c1) (bs - s2) v3 q4 q5 1 hF _ _ _ _ _ hB (lv_sub hl [0, 1, 2, 3] rfl) hH
set_option maxHeartbeats 4000000 in
set_option maxRecDepth 100000 in
theorem wc_X5_right_39 {p : Program} {l : Launch} {e : Env} {s : State} {m : MethodId} {args : Array Value} {below : List Frame} {meth : Method} {c : Code} {D : va_G} {cA : Nat → ClassId} {P : Nat → Prop} {G : Nat × Nat × Nat} {C S : Nat} {o : Nat} {Q : Int32 → ZH → Prop} {XE : String → Nat → ZH → Prop} (X : zc_Cx p l s m args meth c cX5_right 6 (some .int) "ChurchyardBook$Book" D cA P G) (hN : meth.name = "right") (hT : c.exceptionTable.toList = tableOf []) :
    ∀ (h : ZH) (bc bs : Nat) (v3 : Int32) (q4 : Option Nat) (q5 : Option Nat), fc_X5_right_39 G o Q XE h bc bs v3 q4 q5 → ∀ (H : Heap) (locs : List Loc) (ls : Array Slot) (cells slots : Nat), cells + bc ≤ C ∧ slots + bs ≤ S → lv_has ls 6 [(0, .ref o), (3, .int v3), (4, va_rf q4), (5, va_rf q5)] → zc_H D cA P h s H locs → W p l e (zc_Ro 5 C S) s m args below meth c H locs cells slots (vx_MQ below (zc_Q D cA P (fun v h' => ∃ z : Int32, v = some (.int z) ∧ Q z h')) (zc_X D cA P XE) args s C S P) (F0 m 39 ls []) := by
  have hx := X.1
  have hb := X.2.1
  have hown := X.2.2.2.1
  have hts := X.2.2.2.2.1
  intro h bc bs v3 q4 q5 hF
  intro H locs ls cells slots hB hl hH
  unfold fc_X5_right_39 at hF
  refine lv_iconst (v := 0) hx hb dX5_right_39 (by decide) ?_
  exact wc_X5_right_40 X hN hT h bc bs v3 q4 q5 0 hF _ _ _ _ _ hB (lv_sub hl [0, 1, 2, 3] rfl) hH
set_option maxHeartbeats 4000000 in
set_option maxRecDepth 100000 in
theorem wc_X5_right {l : Launch} {D : va_G} {cA : Nat → ClassId} {P : Nat → Prop} {G : Nat × Nat × Nat} {o : Nat} {Q : Int32 → ZH → Prop} {XE : String → Nat → ZH → Prop} {h : ZH} {C S : Nat} {v1 : Int32} {v2 : Int32} {v3 : Int32} (hl9 : l.stackTraces = false) (hF : fc_X5_right G o Q XE h C S v1 v2 v3) :
    zc_M l yX5_right (ws_ yX5_right cX5_right 6 (some .int)) 5 D cA P G [.ref o, .int v1, .int v2, .int v3] h C S (fun v h' => ∃ z : Int32, v = some (.int z) ∧ Q z h') XE := by
  refine zc_ofF hl9 rfl (by decide +kernel) (Nat.le_of_ble_eq_true rfl) ?_
  intro p e s m args below meth c H locs ls X hN hT hH hl
  have hx := X.1
  have hb := X.2.1
  have hown := X.2.2.2.1
  have hts := X.2.2.2.2.1
  have hl : lv_has ls 6 [(0, .ref o), (1, .int v1), (2, .int v2), (3, .int v3)] := hl
  have hB : 0 + C ≤ C ∧ 0 + S ≤ S := ⟨by omega, by omega⟩
  unfold fc_X5_right at hF
  refine lv_aload_n hx hb dX5_right_0 rfl (lv_at hl 0 rfl) ?_
  refine lv_iload_n hx hb dX5_right_1 rfl (lv_at hl 1 rfl) ?_
  obtain ⟨hc, hF⟩ := hF
  refine zc_call (c1 := 0) (s1 := 0) (rest := []) hH hB (Nat.zero_le _) (Nat.zero_le _) (fun hf => zc_rV X hH hc (by decide) rfl (As := [.int v1]) (wc_X5_grave X.2.2.2.2.2.2.2.1 hF) (lw_V q953 q954 q955 q91 q956) ⟨rfl, by decide, by decide, rfl⟩ ⟨Nat.le_of_ble_eq_true rfl, Nat.le_of_ble_eq_true rfl, Nat.le_of_ble_eq_true rfl⟩ rfl hl.1 (st0 := [.int v1, .ref o]) rfl (Nat.le_of_ble_eq_true rfl) dX5_right_2 hf) (fun E9 ce9 q9 h9 H locs hx9 => False.elim hx9) (fun v9 h9 H locs hv9 hH hB => ?_)
  obtain ⟨r1, rfl, hF, rfl⟩ := hv9
  refine zq_astore (r := r1) (lv' := [(4, va_rf r1), (0, .ref o), (1, .int v1), (2, .int v2), (3, .int v3)]) hx hb rfl dX5_right_5 hl (by decide) rfl (fun ls hl => ?_)
  refine lv_aload_n hx hb dX5_right_7 rfl (lv_at hl 1 rfl) ?_
  refine lv_iload_n hx hb dX5_right_8 rfl (lv_at hl 3 rfl) ?_
  obtain ⟨hc, hF⟩ := hF
  refine zc_call (c1 := 0) (s1 := 0) (rest := []) hH hB (Nat.zero_le _) (Nat.zero_le _) (fun hf => zc_rV X hH hc (by decide) rfl (As := [.int v2]) (wc_X5_person X.2.2.2.2.2.2.2.1 hF) (lw_V q937 q938 q939 q91 q940) ⟨rfl, by decide, by decide, rfl⟩ ⟨Nat.le_of_ble_eq_true rfl, Nat.le_of_ble_eq_true rfl, Nat.le_of_ble_eq_true rfl⟩ rfl hl.1 (st0 := [.int v2, .ref o]) rfl (Nat.le_of_ble_eq_true rfl) dX5_right_9 hf) (fun E9 ce9 q9 h9 H locs hx9 => False.elim hx9) (fun v9 h9 H locs hv9 hH hB => ?_)
  obtain ⟨r2, rfl, hF, rfl⟩ := hv9
  refine zq_astore (r := r2) (lv' := [(5, va_rf r2), (4, va_rf r1), (0, .ref o), (1, .int v1), (2, .int v2), (3, .int v3)]) hx hb rfl dX5_right_12 hl (by decide) (by cases r1 <;> rfl) (fun ls hl => ?_)
  refine zq_aload hx hb dX5_right_14 (lv_at hl 1 rfl) ?_
  refine zq_ifnull (tgt := 39) hx hb dX5_right_16 (by decide) (fun cd => ?_) (fun b3 eb3 => ?_)
  · have hF := hF.1 cd
    exact wc_X5_right_39 X hN hT h C S v3 r1 r2 hF _ _ _ _ _ hB (lv_sub hl [2, 5, 1, 0] rfl) hH
  · have hF := hF.2 b3 eb3
    refine zq_aload hx hb dX5_right_19 (lv_at hl 0 rfl) ?_
    refine zq_ifnull (tgt := 39) hx hb dX5_right_21 (by decide) (fun cd => ?_) (fun b4 eb4 => ?_)
    · have hF := hF.1 cd
      exact wc_X5_right_39 X hN hT h C S v3 r1 r2 hF _ _ _ _ _ hB (lv_sub hl [2, 5, 1, 0] rfl) hH
    · have hF := hF.2 b4 eb4
      refine lv_iload_n hx hb dX5_right_24 rfl (lv_at hl 5 rfl) ?_
      refine lv_iconst (v := 1) hx hb dX5_right_25 (by decide) ?_
      refine lv_icmp_lt (tgt := 39) hx hb dX5_right_26 (by decide) (fun cd => ?_) (fun cd => ?_)
      · have hF := hF.1 cd
        exact wc_X5_right_39 X hN hT h C S v3 r1 r2 hF _ _ _ _ _ hB (lv_sub hl [2, 5, 1, 0] rfl) hH
      · have hF := hF.2 cd
        refine lv_iload_n hx hb dX5_right_29 rfl (lv_at hl 5 rfl) ?_
        refine lv_bipush (v := 20) hx hb dX5_right_30 (by decide) ?_
        refine lv_icmp_gt (tgt := 39) hx hb dX5_right_32 (by decide) (fun cd => ?_) (fun cd => ?_)
        · have hF := hF.1 cd
          exact wc_X5_right_39 X hN hT h C S v3 r1 r2 hF _ _ _ _ _ hB (lv_sub hl [2, 5, 1, 0] rfl) hH
        · have hF := hF.2 cd
          refine lv_iconst (v := 1) hx hb dX5_right_35 (by decide) ?_
          refine lv_goto (tgt := 40) hx hb dX5_right_36 (by decide) ?_
          exact wc_X5_right_40 X hN hT h C S v3 r1 r2 1 hF _ _ _ _ _ hB (lv_sub hl [2, 5, 1, 0] rfl) hH
set_option maxHeartbeats 4000000 in
set_option maxRecDepth 100000 in
theorem wc_X5_longer_43 {p : Program} {l : Launch} {e : Env} {s : State} {m : MethodId} {args : Array Value} {below : List Frame} {meth : Method} {c : Code} {D : va_G} {cA : Nat → ClassId} {P : Nat → Prop} {G : Nat × Nat × Nat} {C S : Nat} {o : Nat} {Q : Int32 → ZH → Prop} {XE : String → Nat → ZH → Prop} (X : zc_Cx p l s m args meth c cX5_longer 4 (some .int) "ChurchyardBook$Book" D cA P G) (hN : meth.name = "longer") (hT : c.exceptionTable.toList = tableOf []) :
    ∀ (h : ZH) (bc bs : Nat) (v2 : Int32) (q3 : Option Nat) (t0 : Int32), fc_X5_longer_43 G o Q XE h bc bs v2 q3 t0 → ∀ (H : Heap) (locs : List Loc) (ls : Array Slot) (cells slots : Nat), cells + bc ≤ C ∧ slots + bs ≤ S → lv_has ls 4 [(0, .ref o), (2, .int v2), (3, va_rf q3)] → zc_H D cA P h s H locs → W p l e (zc_Ro 5 C S) s m args below meth c H locs cells slots (vx_MQ below (zc_Q D cA P (fun v h' => ∃ z : Int32, v = some (.int z) ∧ Q z h')) (zc_X D cA P XE) args s C S P) (F0 m 43 ls [.int t0]) := by
  have hx := X.1
  have hb := X.2.1
  have hown := X.2.2.2.1
  have hts := X.2.2.2.2.1
  intro h bc bs v2 q3 t0 hF
  intro H locs ls cells slots hB hl hH
  unfold fc_X5_longer_43 at hF
  refine lv_bipush (v := (-2)) hx hb dX5_longer_43 (by decide) ?_
  obtain ⟨c1, s2, hc1, hs1, hF⟩ := hF
  refine zc_call (c1 := c1) (s1 := s2) (rest := []) hH hB hc1 hs1 (fun hf => zc_rSN X hH (As := [.int t0, .int (-2)]) (host := "ChurchyardBook") (wc_X1_need X.2.2.2.2.2.2.2.1 hF) (lw_meth q265) (by decide +kernel) q87 q264 ⟨by decide, by decide, rfl⟩ ⟨Nat.le_of_ble_eq_true rfl, Nat.le_of_ble_eq_true rfl, Nat.le_of_ble_eq_true rfl⟩ rfl hl.1 (st0 := [.int (-2), .int t0]) rfl (Nat.le_of_ble_eq_true rfl) dX5_longer_45 hf) (fun E9 ce9 q3 h4 H locs hx9 hH hB hce hcv hcl => ?_) (fun v9 h9 H locs hv9 hH hB => ?_)
  · exact zc_out X hH hB (by rw [hT]; intro x hx9; cases hx9) hce hcv hcl hx9
  obtain ⟨rfl, hF, rfl⟩ := hv9
  refine zq_aload_n hx hb dX5_longer_48 rfl (lv_at hl 2 rfl) ?_
  refine lv_dup hx hb dX5_longer_49 (by cases q3 <;> rfl) ?_
  obtain ⟨b5, eb5, hF⟩ := hF
  refine zq_st (st2 := [.ref b5, va_rf q3]) (by rw [eb5]; first | done | rfl) ?_
  obtain ⟨hc, hF⟩ := hF
  refine zc_getf X hH hc 8 608 ("ChurchyardBook$Grave", "to", "I", false) (by decide +kernel) (v := .int (zi h 608 b5)) rfl q678 (Or.inl rfl) dX5_longer_50 ?_
  refine lv_sipush (v := 365) hx hb dX5_longer_53 (by decide) ?_
  refine lv_iload_n hx hb dX5_longer_56 rfl (lv_at hl 1 rfl) ?_
  refine lv_imul hx hb dX5_longer_57 ?_
  refine lv_iadd hx hb dX5_longer_58 ?_
  refine zq_st (st2 := [.int ((zi h 608 b5) + (365 * v2)), .ref b5]) (by rw [eb5]; first | done | rfl) ?_
  obtain ⟨hc, hF⟩ := hF
  refine zc_puti X hH hc 8 608 ("ChurchyardBook$Grave", "to", "I", false) (by decide +kernel) rfl q678 (Or.inl rfl) (ty := .int) (by decide +kernel) rfl rfl (Or.inl rfl) dX5_longer_59 (fun h6 H locs eh6 hH => ?_)
  have hF := hF h6 eh6
  refine lv_aload_n hx hb dX5_longer_62 rfl (lv_at hl 0 rfl) ?_
  refine zq_aload_n hx hb dX5_longer_63 rfl (lv_at hl 2 rfl) ?_
  refine zq_st (st2 := [.ref b5, .ref o]) (by rw [eb5]; first | done | rfl) ?_
  refine zc_call (c1 := 0) (s1 := 0) (rest := [.ref o]) hH hB (Nat.zero_le _) (Nat.zero_le _) (fun hf => rv_yearly_2 X hH q983 hF ⟨Nat.le_of_ble_eq_true rfl, Nat.le_of_ble_eq_true rfl, Nat.le_of_ble_eq_true rfl⟩ hl.1 (st0 := [.ref b5, .ref o]) rfl (Nat.le_of_ble_eq_true rfl) dX5_longer_64 hf) (fun E9 ce9 q9 h9 H locs hx9 => False.elim hx9) (fun v9 h9 H locs hv9 hH hB => ?_)
  obtain ⟨z7, rfl, hF, rfl⟩ := hv9
  refine lv_iload_n hx hb dX5_longer_67 rfl (lv_at hl 1 rfl) ?_
  refine lv_imul hx hb dX5_longer_68 ?_
  obtain ⟨hc, hF⟩ := hF
  refine zc_call (c1 := 0) (s1 := 0) (rest := []) hH hB (Nat.zero_le _) (Nat.zero_le _) (fun hf => zc_rV X hH hc (by decide) rfl (As := [.int (z7 * v2)]) (wc_X5_paid X.2.2.2.2.2.2.2.1 hF) (lw_V q998 q1000 qs10 q91 q1001) ⟨rfl, by decide, by decide, rfl⟩ ⟨Nat.le_of_ble_eq_true rfl, Nat.le_of_ble_eq_true rfl, Nat.le_of_ble_eq_true rfl⟩ rfl hl.1 (st0 := [.int (z7 * v2), .ref o]) rfl (Nat.le_of_ble_eq_true rfl) dX5_longer_69 hf) (fun E9 ce9 q9 h9 H locs hx9 => False.elim hx9) (fun v9 h9 H locs hv9 hH hB => ?_)
  obtain ⟨z8, rfl, hF⟩ := hv9
  exact zc_iret X hH hB rfl rfl ⟨_, rfl, hF⟩ dX5_longer_72
set_option maxHeartbeats 4000000 in
set_option maxRecDepth 100000 in
theorem wc_X5_longer_26 {p : Program} {l : Launch} {e : Env} {s : State} {m : MethodId} {args : Array Value} {below : List Frame} {meth : Method} {c : Code} {D : va_G} {cA : Nat → ClassId} {P : Nat → Prop} {G : Nat × Nat × Nat} {C S : Nat} {o : Nat} {Q : Int32 → ZH → Prop} {XE : String → Nat → ZH → Prop} (X : zc_Cx p l s m args meth c cX5_longer 4 (some .int) "ChurchyardBook$Book" D cA P G) (hN : meth.name = "longer") (hT : c.exceptionTable.toList = tableOf []) :
    ∀ (h : ZH) (bc bs : Nat) (v2 : Int32) (q3 : Option Nat) (t0 : Int32), fc_X5_longer_26 G o Q XE h bc bs v2 q3 t0 → ∀ (H : Heap) (locs : List Loc) (ls : Array Slot) (cells slots : Nat), cells + bc ≤ C ∧ slots + bs ≤ S → lv_has ls 4 [(0, .ref o), (2, .int v2), (3, va_rf q3)] → zc_H D cA P h s H locs → W p l e (zc_Ro 5 C S) s m args below meth c H locs cells slots (vx_MQ below (zc_Q D cA P (fun v h' => ∃ z : Int32, v = some (.int z) ∧ Q z h')) (zc_X D cA P XE) args s C S P) (F0 m 26 ls [.int t0]) := by
  have hx := X.1
  have hb := X.2.1
  have hown := X.2.2.2.1
  have hts := X.2.2.2.2.1
  intro h bc bs v2 q3 t0 hF
  intro H locs ls cells slots hB hl hH
  unfold fc_X5_longer_26 at hF
  refine lv_iconst (v := (-1)) hx hb dX5_longer_26 (by decide) ?_
  obtain ⟨c1, s2, hc1, hs1, hF⟩ := hF
  refine zc_call (c1 := c1) (s1 := s2) (rest := []) hH hB hc1 hs1 (fun hf => zc_rSN X hH (As := [.int t0, .int (-1)]) (host := "ChurchyardBook") (wc_X1_need X.2.2.2.2.2.2.2.1 hF) (lw_meth q265) (by decide +kernel) q87 q264 ⟨by decide, by decide, rfl⟩ ⟨Nat.le_of_ble_eq_true rfl, Nat.le_of_ble_eq_true rfl, Nat.le_of_ble_eq_true rfl⟩ rfl hl.1 (st0 := [.int (-1), .int t0]) rfl (Nat.le_of_ble_eq_true rfl) dX5_longer_27 hf) (fun E9 ce9 q3 h4 H locs hx9 hH hB hce hcv hcl => ?_) (fun v9 h9 H locs hv9 hH hB => ?_)
  · exact zc_out X hH hB (by rw [hT]; intro x hx9; cases hx9) hce hcv hcl hx9
  obtain ⟨rfl, hF, rfl⟩ := hv9
  refine zq_aload_n hx hb dX5_longer_30 rfl (lv_at hl 2 rfl) ?_
  obtain ⟨b5, eb5, hF⟩ := hF
  refine zq_st (st2 := [.ref b5]) (by rw [eb5]; first | done | rfl) ?_
  obtain ⟨hc, hF⟩ := hF
  refine zc_getf X hH hc 6 606 ("ChurchyardBook$Grave", "state", "I", false) (by decide +kernel) (v := .int (zi h 606 b5)) rfl q672 (Or.inl rfl) dX5_longer_31 ?_
  refine lv_iconst (v := 1) hx hb dX5_longer_34 (by decide) ?_
  refine lv_icmp_ne (tgt := 42) hx hb dX5_longer_35 (by decide) (fun cd => ?_) (fun cd => ?_)
  · have hF := hF.1 cd
    refine lv_iconst (v := 0) hx hb dX5_longer_42 (by decide) ?_
    exact wc_X5_longer_43 X hN hT h (bc - c1) (bs - s2) v2 q3 0 hF _ _ _ _ _ hB (lv_sub hl [0, 1, 2] rfl) hH
  · have hF := hF.2 cd
    refine lv_iconst (v := 1) hx hb dX5_longer_38 (by decide) ?_
    refine lv_goto (tgt := 43) hx hb dX5_longer_39 (by decide) ?_
    exact wc_X5_longer_43 X hN hT h (bc - c1) (bs - s2) v2 q3 1 hF _ _ _ _ _ hB (lv_sub hl [0, 1, 2] rfl) hH
set_option maxHeartbeats 4000000 in
set_option maxRecDepth 100000 in
theorem wc_X5_longer_25 {p : Program} {l : Launch} {e : Env} {s : State} {m : MethodId} {args : Array Value} {below : List Frame} {meth : Method} {c : Code} {D : va_G} {cA : Nat → ClassId} {P : Nat → Prop} {G : Nat × Nat × Nat} {C S : Nat} {o : Nat} {Q : Int32 → ZH → Prop} {XE : String → Nat → ZH → Prop} (X : zc_Cx p l s m args meth c cX5_longer 4 (some .int) "ChurchyardBook$Book" D cA P G) (hN : meth.name = "longer") (hT : c.exceptionTable.toList = tableOf []) :
    ∀ (h : ZH) (bc bs : Nat) (v2 : Int32) (q3 : Option Nat), fc_X5_longer_25 G o Q XE h bc bs v2 q3 → ∀ (H : Heap) (locs : List Loc) (ls : Array Slot) (cells slots : Nat), cells + bc ≤ C ∧ slots + bs ≤ S → lv_has ls 4 [(0, .ref o), (2, .int v2), (3, va_rf q3)] → zc_H D cA P h s H locs → W p l e (zc_Ro 5 C S) s m args below meth c H locs cells slots (vx_MQ below (zc_Q D cA P (fun v h' => ∃ z : Int32, v = some (.int z) ∧ Q z h')) (zc_X D cA P XE) args s C S P) (F0 m 25 ls []) := by
  have hx := X.1
  have hb := X.2.1
  have hown := X.2.2.2.1
  have hts := X.2.2.2.2.1
  intro h bc bs v2 q3 hF
  intro H locs ls cells slots hB hl hH
  unfold fc_X5_longer_25 at hF
  refine lv_iconst (v := 0) hx hb dX5_longer_25 (by decide) ?_
  exact wc_X5_longer_26 X hN hT h bc bs v2 q3 0 hF _ _ _ _ _ hB (lv_sub hl [0, 1, 2] rfl) hH
set_option maxHeartbeats 4000000 in
set_option maxRecDepth 100000 in
theorem wc_X5_longer {l : Launch} {D : va_G} {cA : Nat → ClassId} {P : Nat → Prop} {G : Nat × Nat × Nat} {o : Nat} {Q : Int32 → ZH → Prop} {XE : String → Nat → ZH → Prop} {h : ZH} {C S : Nat} {v1 : Int32} {v2 : Int32} (hl9 : l.stackTraces = false) (hF : fc_X5_longer G o Q XE h C S v1 v2) :
    zc_M l yX5_longer (ws_ yX5_longer cX5_longer 4 (some .int)) 5 D cA P G [.ref o, .int v1, .int v2] h C S (fun v h' => ∃ z : Int32, v = some (.int z) ∧ Q z h') XE := by
  refine zc_ofF hl9 rfl (by decide +kernel) (Nat.le_of_ble_eq_true rfl) ?_
  intro p e s m args below meth c H locs ls X hN hT hH hl
  have hx := X.1
  have hb := X.2.1
  have hown := X.2.2.2.1
  have hts := X.2.2.2.2.1
  have hl : lv_has ls 4 [(0, .ref o), (1, .int v1), (2, .int v2)] := hl
  have hB : 0 + C ≤ C ∧ 0 + S ≤ S := ⟨by omega, by omega⟩
  unfold fc_X5_longer at hF
  refine lv_aload_n hx hb dX5_longer_0 rfl (lv_at hl 0 rfl) ?_
  refine lv_iload_n hx hb dX5_longer_1 rfl (lv_at hl 1 rfl) ?_
  obtain ⟨hc, hF⟩ := hF
  refine zc_call (c1 := 0) (s1 := 0) (rest := []) hH hB (Nat.zero_le _) (Nat.zero_le _) (fun hf => zc_rV X hH hc (by decide) rfl (As := [.int v1]) (wc_X5_grave X.2.2.2.2.2.2.2.1 hF) (lw_V q953 q954 q955 q91 q956) ⟨rfl, by decide, by decide, rfl⟩ ⟨Nat.le_of_ble_eq_true rfl, Nat.le_of_ble_eq_true rfl, Nat.le_of_ble_eq_true rfl⟩ rfl hl.1 (st0 := [.int v1, .ref o]) rfl (Nat.le_of_ble_eq_true rfl) dX5_longer_2 hf) (fun E9 ce9 q9 h9 H locs hx9 => False.elim hx9) (fun v9 h9 H locs hv9 hH hB => ?_)
  obtain ⟨r1, rfl, hF, rfl⟩ := hv9
  refine zq_astore_n (r := r1) (lv' := [(3, va_rf r1), (0, .ref o), (1, .int v1), (2, .int v2)]) hx hb rfl dX5_longer_5 rfl hl (by decide) rfl (fun ls hl => ?_)
  refine zq_aload_n hx hb dX5_longer_6 rfl (lv_at hl 0 rfl) ?_
  refine zq_ifnull (tgt := 25) hx hb dX5_longer_7 (by decide) (fun cd => ?_) (fun b2 eb2 => ?_)
  · have hF := hF.1 cd
    exact wc_X5_longer_25 X hN hT h C S v2 r1 hF _ _ _ _ _ hB (lv_sub hl [1, 3, 0] rfl) hH
  · have hF := hF.2 b2 eb2
    refine lv_iload_n hx hb dX5_longer_10 rfl (lv_at hl 3 rfl) ?_
    refine lv_iconst (v := 1) hx hb dX5_longer_11 (by decide) ?_
    refine lv_icmp_lt (tgt := 25) hx hb dX5_longer_12 (by decide) (fun cd => ?_) (fun cd => ?_)
    · have hF := hF.1 cd
      exact wc_X5_longer_25 X hN hT h C S v2 r1 hF _ _ _ _ _ hB (lv_sub hl [1, 3, 0] rfl) hH
    · have hF := hF.2 cd
      refine lv_iload_n hx hb dX5_longer_15 rfl (lv_at hl 3 rfl) ?_
      refine lv_bipush (v := 20) hx hb dX5_longer_16 (by decide) ?_
      refine lv_icmp_gt (tgt := 25) hx hb dX5_longer_18 (by decide) (fun cd => ?_) (fun cd => ?_)
      · have hF := hF.1 cd
        exact wc_X5_longer_25 X hN hT h C S v2 r1 hF _ _ _ _ _ hB (lv_sub hl [1, 3, 0] rfl) hH
      · have hF := hF.2 cd
        refine lv_iconst (v := 1) hx hb dX5_longer_21 (by decide) ?_
        refine lv_goto (tgt := 26) hx hb dX5_longer_22 (by decide) ?_
        exact wc_X5_longer_26 X hN hT h C S v2 r1 1 hF _ _ _ _ _ hB (lv_sub hl [1, 3, 0] rfl) hH
set_option maxHeartbeats 4000000 in
set_option maxRecDepth 100000 in
theorem wc_X5_agree_91 {p : Program} {l : Launch} {e : Env} {s : State} {m : MethodId} {args : Array Value} {below : List Frame} {meth : Method} {c : Code} {D : va_G} {cA : Nat → ClassId} {P : Nat → Prop} {G : Nat × Nat × Nat} {C S : Nat} {o : Nat} {Q : Int32 → ZH → Prop} {XE : String → Nat → ZH → Prop} (X : zc_Cx p l s m args meth c cX5_agree 5 (some .int) "ChurchyardBook$Book" D cA P G) (hN : meth.name = "agree") (hT : c.exceptionTable.toList = tableOf []) :
    ∀ (h : ZH) (bc bs : Nat) (u0 : Option Nat) (t1 : Int32) (t2 : Int32), fc_X5_agree_91 G o Q XE h bc bs u0 t1 t2 → ∀ (H : Heap) (locs : List Loc) (ls : Array Slot) (cells slots : Nat), cells + bc ≤ C ∧ slots + bs ≤ S → lv_has ls 5 [(0, .ref o)] → zc_H D cA P h s H locs → W p l e (zc_Ro 5 C S) s m args below meth c H locs cells slots (vx_MQ below (zc_Q D cA P (fun v h' => ∃ z : Int32, v = some (.int z) ∧ Q z h')) (zc_X D cA P XE) args s C S P) (F0 m 91 ls [.int t2, .int t1, va_rf u0]) := by
  have hx := X.1
  have hb := X.2.1
  have hown := X.2.2.2.1
  have hts := X.2.2.2.2.1
  intro h bc bs u0 t1 t2 hF
  intro H locs ls cells slots hB hl hH
  unfold fc_X5_agree_91 at hF
  obtain ⟨b1, eb1, hF⟩ := hF
  refine zq_st (st2 := [.int t2, .int t1, .ref b1]) (by rw [eb1]; first | done | rfl) ?_
  obtain ⟨hc, hF⟩ := hF
  obtain ⟨hI, hF⟩ := hF
  refine zc_zast X hH hc hI dX5_agree_91 (fun h2 H locs eh2 hH => ?_)
  have hF := hF h2 eh2
  refine lv_iconst (v := 0) hx hb dX5_agree_92 (by decide) ?_
  exact zc_iret X hH hB rfl rfl ⟨_, rfl, hF⟩ dX5_agree_93
set_option maxHeartbeats 4000000 in
set_option maxRecDepth 100000 in
theorem wc_X5_agree_75 {p : Program} {l : Launch} {e : Env} {s : State} {m : MethodId} {args : Array Value} {below : List Frame} {meth : Method} {c : Code} {D : va_G} {cA : Nat → ClassId} {P : Nat → Prop} {G : Nat × Nat × Nat} {C S : Nat} {o : Nat} {Q : Int32 → ZH → Prop} {XE : String → Nat → ZH → Prop} (X : zc_Cx p l s m args meth c cX5_agree 5 (some .int) "ChurchyardBook$Book" D cA P G) (hN : meth.name = "agree") (hT : c.exceptionTable.toList = tableOf []) :
    ∀ (h : ZH) (bc bs : Nat) (v2 : Int32) (v3 : Int32) (q4 : Option Nat), fc_X5_agree_75 G o Q XE h bc bs v2 v3 q4 → ∀ (H : Heap) (locs : List Loc) (ls : Array Slot) (cells slots : Nat), cells + bc ≤ C ∧ slots + bs ≤ S → lv_has ls 5 [(0, .ref o), (2, .int v2), (3, .int v3), (4, va_rf q4)] → zc_H D cA P h s H locs → W p l e (zc_Ro 5 C S) s m args below meth c H locs cells slots (vx_MQ below (zc_Q D cA P (fun v h' => ∃ z : Int32, v = some (.int z) ∧ Q z h')) (zc_X D cA P XE) args s C S P) (F0 m 75 ls []) := by
  have hx := X.1
  have hb := X.2.1
  have hown := X.2.2.2.1
  have hts := X.2.2.2.2.1
  intro h bc bs v2 v3 q4 hF
  intro H locs ls cells slots hB hl hH
  unfold fc_X5_agree_75 at hF
  refine zq_aload hx hb dX5_agree_75 (lv_at hl 3 rfl) ?_
  obtain ⟨b1, eb1, hF⟩ := hF
  refine zq_st (st2 := [.ref b1]) (by rw [eb1]; first | done | rfl) ?_
  obtain ⟨hc, hF⟩ := hF
  refine zc_getf X hH hc 13 613 ("ChurchyardBook$Grave", "told", "[Z", false) (by decide +kernel) (v := va_rf (zr h 613 b1)) rfl q692 (Or.inl rfl) dX5_agree_77 ?_
  refine lv_iload_n hx hb dX5_agree_80 rfl (lv_at hl 1 rfl) ?_
  refine lv_iload_n hx hb dX5_agree_81 rfl (lv_at hl 2 rfl) ?_
  refine lv_iconst (v := 1) hx hb dX5_agree_82 (by decide) ?_
  refine lv_icmp_ne (tgt := 90) hx hb dX5_agree_83 (by decide) (fun cd => ?_) (fun cd => ?_)
  · have hF := hF.1 cd
    refine lv_iconst (v := 0) hx hb dX5_agree_90 (by decide) ?_
    exact wc_X5_agree_91 X hN hT h bc bs (zr h 613 b1) v2 0 hF _ _ _ _ _ hB (lv_sub hl [0] rfl) hH
  · have hF := hF.2 cd
    refine lv_iconst (v := 1) hx hb dX5_agree_86 (by decide) ?_
    refine lv_goto (tgt := 91) hx hb dX5_agree_87 (by decide) ?_
    exact wc_X5_agree_91 X hN hT h bc bs (zr h 613 b1) v2 1 hF _ _ _ _ _ hB (lv_sub hl [0] rfl) hH
set_option maxHeartbeats 4000000 in
set_option maxRecDepth 100000 in
theorem wc_X5_agree_52 {p : Program} {l : Launch} {e : Env} {s : State} {m : MethodId} {args : Array Value} {below : List Frame} {meth : Method} {c : Code} {D : va_G} {cA : Nat → ClassId} {P : Nat → Prop} {G : Nat × Nat × Nat} {C S : Nat} {o : Nat} {Q : Int32 → ZH → Prop} {XE : String → Nat → ZH → Prop} (X : zc_Cx p l s m args meth c cX5_agree 5 (some .int) "ChurchyardBook$Book" D cA P G) (hN : meth.name = "agree") (hT : c.exceptionTable.toList = tableOf []) :
    ∀ (h : ZH) (bc bs : Nat) (v2 : Int32) (v3 : Int32) (q4 : Option Nat) (t0 : Int32), fc_X5_agree_52 G o Q XE h bc bs v2 v3 q4 t0 → ∀ (H : Heap) (locs : List Loc) (ls : Array Slot) (cells slots : Nat), cells + bc ≤ C ∧ slots + bs ≤ S → lv_has ls 5 [(0, .ref o), (2, .int v2), (3, .int v3), (4, va_rf q4)] → zc_H D cA P h s H locs → W p l e (zc_Ro 5 C S) s m args below meth c H locs cells slots (vx_MQ below (zc_Q D cA P (fun v h' => ∃ z : Int32, v = some (.int z) ∧ Q z h')) (zc_X D cA P XE) args s C S P) (F0 m 52 ls [.int t0]) := by
  have hx := X.1
  have hb := X.2.1
  have hown := X.2.2.2.1
  have hts := X.2.2.2.2.1
  intro h bc bs v2 v3 q4 t0 hF
  intro H locs ls cells slots hB hl hH
  unfold fc_X5_agree_52 at hF
  refine lv_bipush (v := (-2)) hx hb dX5_agree_52 (by decide) ?_
  obtain ⟨c1, s2, hc1, hs1, hF⟩ := hF
  refine zc_call (c1 := c1) (s1 := s2) (rest := []) hH hB hc1 hs1 (fun hf => zc_rSN X hH (As := [.int t0, .int (-2)]) (host := "ChurchyardBook") (wc_X1_need X.2.2.2.2.2.2.2.1 hF) (lw_meth q265) (by decide +kernel) q87 q264 ⟨by decide, by decide, rfl⟩ ⟨Nat.le_of_ble_eq_true rfl, Nat.le_of_ble_eq_true rfl, Nat.le_of_ble_eq_true rfl⟩ rfl hl.1 (st0 := [.int (-2), .int t0]) rfl (Nat.le_of_ble_eq_true rfl) dX5_agree_54 hf) (fun E9 ce9 q3 h4 H locs hx9 hH hB hce hcv hcl => ?_) (fun v9 h9 H locs hv9 hH hB => ?_)
  · exact zc_out X hH hB (by rw [hT]; intro x hx9; cases hx9) hce hcv hcl hx9
  obtain ⟨rfl, hF, rfl⟩ := hv9
  refine zq_aload hx hb dX5_agree_57 (lv_at hl 3 rfl) ?_
  obtain ⟨b5, eb5, hF⟩ := hF
  refine zq_st (st2 := [.ref b5]) (by rw [eb5]; first | done | rfl) ?_
  obtain ⟨hc, hF⟩ := hF
  refine zc_getf X hH hc 13 613 ("ChurchyardBook$Grave", "told", "[Z", false) (by decide +kernel) (v := va_rf (zr h 613 b5)) rfl q692 (Or.inl rfl) dX5_agree_59 ?_
  refine zq_ifnonnull (tgt := 75) hx hb dX5_agree_62 (by decide) (fun b6 eb6 => ?_) (fun cd => ?_)
  · have hF := hF.2 b6 eb6
    exact wc_X5_agree_75 X hN hT h (bc - c1) (bs - s2) v2 v3 q4 hF _ _ _ _ _ hB (lv_sub hl [0, 1, 2, 3] rfl) hH
  · have hF := hF.1 cd
    refine zq_aload hx hb dX5_agree_65 (lv_at hl 3 rfl) ?_
    refine lv_sipush (v := 150) hx hb dX5_agree_67 (by decide) ?_
    obtain ⟨hI, hF⟩ := hF
    obtain ⟨hJ, hF⟩ := hF
    obtain ⟨hc1, hF⟩ := hF
    obtain ⟨hs1, hF⟩ := hF
    refine zc_newa X hH hB (atype := .boolean) 1 (by simp) q1326 hI hJ hc1 hs1 dX5_agree_70 (fun a7 h8 H hza7 eh8 hH hB => ?_)
    have hF := hF a7 h8 hza7 eh8
    refine zq_st (st2 := [.ref a7, .ref b5]) (by rw [eb5]; first | done | rfl) ?_
    obtain ⟨hc, hF⟩ := hF
    refine zc_putr X hH hc 13 613 ("ChurchyardBook$Grave", "told", "[Z", false) (by decide +kernel) rfl q692 (Or.inl rfl) (x := (some a7)) rfl (ty := (.array .boolean)) (by decide +kernel) rfl (Or.inl rfl) dX5_agree_72 (fun h9 H locs eh9 hH => ?_)
    have hF := hF h9 eh9
    exact wc_X5_agree_75 X hN hT h9 ((bc - c1) - 1) ((bs - s2) - (150 : Int32).toNatClampNeg) v2 v3 q4 hF _ _ _ _ _ hB (lv_sub hl [0, 1, 2, 3] rfl) hH
set_option maxHeartbeats 4000000 in
set_option maxRecDepth 100000 in
theorem wc_X5_agree_34 {p : Program} {l : Launch} {e : Env} {s : State} {m : MethodId} {args : Array Value} {below : List Frame} {meth : Method} {c : Code} {D : va_G} {cA : Nat → ClassId} {P : Nat → Prop} {G : Nat × Nat × Nat} {C S : Nat} {o : Nat} {Q : Int32 → ZH → Prop} {XE : String → Nat → ZH → Prop} (X : zc_Cx p l s m args meth c cX5_agree 5 (some .int) "ChurchyardBook$Book" D cA P G) (hN : meth.name = "agree") (hT : c.exceptionTable.toList = tableOf []) :
    ∀ (h : ZH) (bc bs : Nat) (v2 : Int32) (v3 : Int32) (q4 : Option Nat) (t0 : Int32), fc_X5_agree_34 G o Q XE h bc bs v2 v3 q4 t0 → ∀ (H : Heap) (locs : List Loc) (ls : Array Slot) (cells slots : Nat), cells + bc ≤ C ∧ slots + bs ≤ S → lv_has ls 5 [(0, .ref o), (2, .int v2), (3, .int v3), (4, va_rf q4)] → zc_H D cA P h s H locs → W p l e (zc_Ro 5 C S) s m args below meth c H locs cells slots (vx_MQ below (zc_Q D cA P (fun v h' => ∃ z : Int32, v = some (.int z) ∧ Q z h')) (zc_X D cA P XE) args s C S P) (F0 m 34 ls [.int t0]) := by
  have hx := X.1
  have hb := X.2.1
  have hown := X.2.2.2.1
  have hts := X.2.2.2.2.1
  intro h bc bs v2 v3 q4 t0 hF
  intro H locs ls cells slots hB hl hH
  unfold fc_X5_agree_34 at hF
  refine lv_iconst (v := (-1)) hx hb dX5_agree_34 (by decide) ?_
  obtain ⟨c1, s2, hc1, hs1, hF⟩ := hF
  refine zc_call (c1 := c1) (s1 := s2) (rest := []) hH hB hc1 hs1 (fun hf => zc_rSN X hH (As := [.int t0, .int (-1)]) (host := "ChurchyardBook") (wc_X1_need X.2.2.2.2.2.2.2.1 hF) (lw_meth q265) (by decide +kernel) q87 q264 ⟨by decide, by decide, rfl⟩ ⟨Nat.le_of_ble_eq_true rfl, Nat.le_of_ble_eq_true rfl, Nat.le_of_ble_eq_true rfl⟩ rfl hl.1 (st0 := [.int (-1), .int t0]) rfl (Nat.le_of_ble_eq_true rfl) dX5_agree_35 hf) (fun E9 ce9 q3 h4 H locs hx9 hH hB hce hcv hcl => ?_) (fun v9 h9 H locs hv9 hH hB => ?_)
  · exact zc_out X hH hB (by rw [hT]; intro x hx9; cases hx9) hce hcv hcl hx9
  obtain ⟨rfl, hF, rfl⟩ := hv9
  refine zq_aload hx hb dX5_agree_38 (lv_at hl 3 rfl) ?_
  obtain ⟨b5, eb5, hF⟩ := hF
  refine zq_st (st2 := [.ref b5]) (by rw [eb5]; first | done | rfl) ?_
  obtain ⟨hc, hF⟩ := hF
  refine zc_getf X hH hc 6 606 ("ChurchyardBook$Grave", "state", "I", false) (by decide +kernel) (v := .int (zi h 606 b5)) rfl q672 (Or.inl rfl) dX5_agree_40 ?_
  refine lv_iconst (v := 1) hx hb dX5_agree_43 (by decide) ?_
  refine lv_icmp_ne (tgt := 51) hx hb dX5_agree_44 (by decide) (fun cd => ?_) (fun cd => ?_)
  · have hF := hF.1 cd
    refine lv_iconst (v := 0) hx hb dX5_agree_51 (by decide) ?_
    exact wc_X5_agree_52 X hN hT h (bc - c1) (bs - s2) v2 v3 q4 0 hF _ _ _ _ _ hB (lv_sub hl [0, 1, 2, 3] rfl) hH
  · have hF := hF.2 cd
    refine lv_iconst (v := 1) hx hb dX5_agree_47 (by decide) ?_
    refine lv_goto (tgt := 52) hx hb dX5_agree_48 (by decide) ?_
    exact wc_X5_agree_52 X hN hT h (bc - c1) (bs - s2) v2 v3 q4 1 hF _ _ _ _ _ hB (lv_sub hl [0, 1, 2, 3] rfl) hH
set_option maxHeartbeats 4000000 in
set_option maxRecDepth 100000 in
theorem wc_X5_agree_33 {p : Program} {l : Launch} {e : Env} {s : State} {m : MethodId} {args : Array Value} {below : List Frame} {meth : Method} {c : Code} {D : va_G} {cA : Nat → ClassId} {P : Nat → Prop} {G : Nat × Nat × Nat} {C S : Nat} {o : Nat} {Q : Int32 → ZH → Prop} {XE : String → Nat → ZH → Prop} (X : zc_Cx p l s m args meth c cX5_agree 5 (some .int) "ChurchyardBook$Book" D cA P G) (hN : meth.name = "agree") (hT : c.exceptionTable.toList = tableOf []) :
    ∀ (h : ZH) (bc bs : Nat) (v2 : Int32) (v3 : Int32) (q4 : Option Nat), fc_X5_agree_33 G o Q XE h bc bs v2 v3 q4 → ∀ (H : Heap) (locs : List Loc) (ls : Array Slot) (cells slots : Nat), cells + bc ≤ C ∧ slots + bs ≤ S → lv_has ls 5 [(0, .ref o), (2, .int v2), (3, .int v3), (4, va_rf q4)] → zc_H D cA P h s H locs → W p l e (zc_Ro 5 C S) s m args below meth c H locs cells slots (vx_MQ below (zc_Q D cA P (fun v h' => ∃ z : Int32, v = some (.int z) ∧ Q z h')) (zc_X D cA P XE) args s C S P) (F0 m 33 ls []) := by
  have hx := X.1
  have hb := X.2.1
  have hown := X.2.2.2.1
  have hts := X.2.2.2.2.1
  intro h bc bs v2 v3 q4 hF
  intro H locs ls cells slots hB hl hH
  unfold fc_X5_agree_33 at hF
  refine lv_iconst (v := 0) hx hb dX5_agree_33 (by decide) ?_
  exact wc_X5_agree_34 X hN hT h bc bs v2 v3 q4 0 hF _ _ _ _ _ hB (lv_sub hl [0, 1, 2, 3] rfl) hH
set_option maxHeartbeats 4000000 in
set_option maxRecDepth 100000 in
theorem wc_X5_agree_29 {p : Program} {l : Launch} {e : Env} {s : State} {m : MethodId} {args : Array Value} {below : List Frame} {meth : Method} {c : Code} {D : va_G} {cA : Nat → ClassId} {P : Nat → Prop} {G : Nat × Nat × Nat} {C S : Nat} {o : Nat} {Q : Int32 → ZH → Prop} {XE : String → Nat → ZH → Prop} (X : zc_Cx p l s m args meth c cX5_agree 5 (some .int) "ChurchyardBook$Book" D cA P G) (hN : meth.name = "agree") (hT : c.exceptionTable.toList = tableOf []) :
    ∀ (h : ZH) (bc bs : Nat) (v2 : Int32) (v3 : Int32) (q4 : Option Nat), fc_X5_agree_29 G o Q XE h bc bs v2 v3 q4 → ∀ (H : Heap) (locs : List Loc) (ls : Array Slot) (cells slots : Nat), cells + bc ≤ C ∧ slots + bs ≤ S → lv_has ls 5 [(0, .ref o), (2, .int v2), (3, .int v3), (4, va_rf q4)] → zc_H D cA P h s H locs → W p l e (zc_Ro 5 C S) s m args below meth c H locs cells slots (vx_MQ below (zc_Q D cA P (fun v h' => ∃ z : Int32, v = some (.int z) ∧ Q z h')) (zc_X D cA P XE) args s C S P) (F0 m 29 ls []) := by
  have hx := X.1
  have hb := X.2.1
  have hown := X.2.2.2.1
  have hts := X.2.2.2.2.1
  intro h bc bs v2 v3 q4 hF
  intro H locs ls cells slots hB hl hH
  unfold fc_X5_agree_29 at hF
  refine lv_iconst (v := 1) hx hb dX5_agree_29 (by decide) ?_
  refine lv_goto (tgt := 34) hx hb dX5_agree_30 (by decide) ?_
  exact wc_X5_agree_34 X hN hT h bc bs v2 v3 q4 1 hF _ _ _ _ _ hB (lv_sub hl [0, 1, 2, 3] rfl) hH
set_option maxHeartbeats 4000000 in
set_option maxRecDepth 100000 in
theorem wc_X5_agree {l : Launch} {D : va_G} {cA : Nat → ClassId} {P : Nat → Prop} {G : Nat × Nat × Nat} {o : Nat} {Q : Int32 → ZH → Prop} {XE : String → Nat → ZH → Prop} {h : ZH} {C S : Nat} {v1 : Int32} {v2 : Int32} {v3 : Int32} (hl9 : l.stackTraces = false) (hF : fc_X5_agree G o Q XE h C S v1 v2 v3) :
    zc_M l yX5_agree (ws_ yX5_agree cX5_agree 5 (some .int)) 5 D cA P G [.ref o, .int v1, .int v2, .int v3] h C S (fun v h' => ∃ z : Int32, v = some (.int z) ∧ Q z h') XE := by
  refine zc_ofF hl9 rfl (by decide +kernel) (Nat.le_of_ble_eq_true rfl) ?_
  intro p e s m args below meth c H locs ls X hN hT hH hl
  have hx := X.1
  have hb := X.2.1
  have hown := X.2.2.2.1
  have hts := X.2.2.2.2.1
  have hl : lv_has ls 5 [(0, .ref o), (1, .int v1), (2, .int v2), (3, .int v3)] := hl
  have hB : 0 + C ≤ C ∧ 0 + S ≤ S := ⟨by omega, by omega⟩
  unfold fc_X5_agree at hF
  refine lv_aload_n hx hb dX5_agree_0 rfl (lv_at hl 0 rfl) ?_
  refine lv_iload_n hx hb dX5_agree_1 rfl (lv_at hl 1 rfl) ?_
  obtain ⟨hc, hF⟩ := hF
  refine zc_call (c1 := 0) (s1 := 0) (rest := []) hH hB (Nat.zero_le _) (Nat.zero_le _) (fun hf => zc_rV X hH hc (by decide) rfl (As := [.int v1]) (wc_X5_grave X.2.2.2.2.2.2.2.1 hF) (lw_V q953 q954 q955 q91 q956) ⟨rfl, by decide, by decide, rfl⟩ ⟨Nat.le_of_ble_eq_true rfl, Nat.le_of_ble_eq_true rfl, Nat.le_of_ble_eq_true rfl⟩ rfl hl.1 (st0 := [.int v1, .ref o]) rfl (Nat.le_of_ble_eq_true rfl) dX5_agree_2 hf) (fun E9 ce9 q9 h9 H locs hx9 => False.elim hx9) (fun v9 h9 H locs hv9 hH hB => ?_)
  obtain ⟨r1, rfl, hF, rfl⟩ := hv9
  refine zq_astore (r := r1) (lv' := [(4, va_rf r1), (0, .ref o), (1, .int v1), (2, .int v2), (3, .int v3)]) hx hb rfl dX5_agree_5 hl (by decide) rfl (fun ls hl => ?_)
  refine zq_aload hx hb dX5_agree_7 (lv_at hl 0 rfl) ?_
  refine zq_ifnull (tgt := 33) hx hb dX5_agree_9 (by decide) (fun cd => ?_) (fun b2 eb2 => ?_)
  · have hF := hF.1 cd
    exact wc_X5_agree_33 X hN hT h C S v2 v3 r1 hF _ _ _ _ _ hB (lv_sub hl [1, 3, 4, 0] rfl) hH
  · have hF := hF.2 b2 eb2
    refine lv_aload_n hx hb dX5_agree_12 rfl (lv_at hl 1 rfl) ?_
    refine lv_iload_n hx hb dX5_agree_13 rfl (lv_at hl 3 rfl) ?_
    obtain ⟨hc, hF⟩ := hF
    refine zc_call (c1 := 0) (s1 := 0) (rest := []) hH hB (Nat.zero_le _) (Nat.zero_le _) (fun hf => zc_rV X hH hc (by decide) rfl (As := [.int v2]) (wc_X5_person X.2.2.2.2.2.2.2.1 hF) (lw_V q937 q938 q939 q91 q940) ⟨rfl, by decide, by decide, rfl⟩ ⟨Nat.le_of_ble_eq_true rfl, Nat.le_of_ble_eq_true rfl, Nat.le_of_ble_eq_true rfl⟩ rfl hl.1 (st0 := [.int v2, .ref o]) rfl (Nat.le_of_ble_eq_true rfl) dX5_agree_14 hf) (fun E9 ce9 q9 h9 H locs hx9 => False.elim hx9) (fun v9 h9 H locs hv9 hH hB => ?_)
    obtain ⟨r3, rfl, hF, rfl⟩ := hv9
    refine zq_ifnull (tgt := 33) hx hb dX5_agree_17 (by decide) (fun cd => ?_) (fun b4 eb4 => ?_)
    · have hF := hF.1 cd
      exact wc_X5_agree_33 X hN hT h C S v2 v3 r1 hF _ _ _ _ _ hB (lv_sub hl [1, 3, 4, 0] rfl) hH
    · have hF := hF.2 b4 eb4
      refine lv_iload_n hx hb dX5_agree_20 rfl (lv_at hl 4 rfl) ?_
      refine lv_if_eq (tgt := 29) hx hb dX5_agree_21 (by decide) (fun cd => ?_) (fun cd => ?_)
      · have hF := hF.1 cd
        exact wc_X5_agree_29 X hN hT h C S v2 v3 r1 hF _ _ _ _ _ hB (lv_sub hl [1, 3, 4, 0] rfl) hH
      · have hF := hF.2 cd
        refine lv_iload_n hx hb dX5_agree_24 rfl (lv_at hl 4 rfl) ?_
        refine lv_iconst (v := 1) hx hb dX5_agree_25 (by decide) ?_
        refine lv_icmp_ne (tgt := 33) hx hb dX5_agree_26 (by decide) (fun cd => ?_) (fun cd => ?_)
        · have hF := hF.1 cd
          exact wc_X5_agree_33 X hN hT h C S v2 v3 r1 hF _ _ _ _ _ hB (lv_sub hl [1, 3, 4, 0] rfl) hH
        · have hF := hF.2 cd
          exact wc_X5_agree_29 X hN hT h C S v2 v3 r1 hF _ _ _ _ _ hB (lv_sub hl [1, 3, 4, 0] rfl) hH
set_option maxHeartbeats 4000000 in
set_option maxRecDepth 100000 in
theorem wc_J19_equals {l : Launch} {D : va_G} {cA : Nat → ClassId} {P : Nat → Prop} {G : Nat × Nat × Nat} {o : Nat} {Q : Int32 → Prop} {h : ZH} {C S : Nat} {q1 : Option Nat} (hl9 : l.stackTraces = false) (hF : fc_J19_equals G o Q h q1) :
    zc_M l yJ19_equals (ws_ yJ19_equals cJ19_equals 2 (some .boolean)) 1 D cA P G [.ref o, va_rf q1] h C S (fun v h' => ∃ z : Int32, v = some (.int z) ∧ Q z ∧ h = h') zc_no := by
  refine zc_ofF hl9 rfl (by decide +kernel) (zc_slle (by simp [zc_k1, zc_kI, zc_kR]) (Nat.le_of_ble_eq_true rfl)) ?_
  intro p e s m args below meth c H locs ls X hN hT hH hl
  have hx := X.1
  have hb := X.2.1
  have hown := X.2.2.2.1
  have hts := X.2.2.2.2.1
  have hl : lv_has ls 2 [(0, .ref o), (1, va_rf q1)] := by
    have h9 := hl
    rw [zc_ags _ (by simp [zc_k1, zc_kI, zc_kR]) 0] at h9
    exact h9
  have hB : 0 + 0 ≤ C ∧ 0 + 0 ≤ S := ⟨by omega, by omega⟩
  have eh : h = h := rfl
  unfold fc_J19_equals at hF
  refine lv_aload_n hx hb dJ19_equals_0 rfl (lv_at hl 0 rfl) ?_
  refine zq_aload_n hx hb dJ19_equals_1 rfl (lv_at hl 1 rfl) ?_
  refine lv_acmp_ne (rx := (some o)) (ry := q1) (tgt := 9) hx hb dJ19_equals_2 (by decide) (fun cd => ?_) (fun cd => ?_)
  · have hF := hF.1 cd
    refine lv_iconst (v := 0) hx hb dJ19_equals_9 (by decide) ?_
    exact zc_iret X hH hB rfl rfl ⟨_, rfl, hF, eh⟩ dJ19_equals_10
  · have hF := hF.2 cd
    refine lv_iconst (v := 1) hx hb dJ19_equals_5 (by decide) ?_
    refine lv_goto (tgt := 10) hx hb dJ19_equals_6 (by decide) ?_
    exact zc_iret X hH hB rfl rfl ⟨_, rfl, hF, eh⟩ dJ19_equals_10
set_option maxHeartbeats 1000000 in
theorem rv_equals_4 {p : Program} {l : Launch} {e : Env} {R : Room} {s : State} {m : MethodId} {args : Array Value} {below : List Frame} {meth : Method} {c : Code} {H : Heap} {locs : List Loc} {cells slots : Nat} {cc : ByteArray} {nL pc : Nat} {ret : Option FieldType} {own : String} {ls : Array Slot} {rest : List Value} {D : va_G} {cA : Nat → ClassId} {P : Nat → Prop} {G : Nat × Nat × Nat} {h : ZH} {C S a idx : Nat} {Q : Int32 → Prop} {q1 : Option Nat} (X : zc_Cx p l s m args meth c cc nL ret own D cA P G) (hH : zc_H D cA P h s H locs) (hlk : Cond.methodLink own idx ⟨"java/lang/Object", "equals", "(Ljava/lang/Object;)Z"⟩ ∈ lw_all) (hF : fv_equals_4 G a Q h q1) (hR : zc_rm R 1 11) (hsize : ls.size = nL) {st0 : List Value} (hst : st0 = ([va_rf q1] : List Value).reverse ++ .ref a :: rest) (hcat : (rest.map fun v => v.category).sum ≤ 8) (hdg : decode cc pc = .ok (.invokevirtual idx, 3)) (hf : cells + C ≤ R.cells ∧ slots + S ≤ R.slots) :
    vx_Run p l e R s m args below meth c H locs cells slots C S (F0 m pc ls st0) rest (zc_Q D cA P (fun v h' => ∃ z : Int32, v = some (.int z) ∧ Q z ∧ h = h') (Value.ref a :: [va_rf q1]).toArray) (zc_X D cA P zc_no) P := by
  unfold fv_equals_4 at hF
  have hR9 := hR
  obtain ⟨hc, hF⟩ := hF
  simp only [List.mem_cons, List.not_mem_nil, or_false] at hc
  rcases hc with hc
  · have hF := hF (by rw [hc]; decide)
    exact zc_rU X hH hc (by decide) rfl (owner := "java/lang/Object") (x := ⟨"java/lang/Object", "equals", "(Ljava/lang/Object;)Z"⟩) (As := [va_rf q1]) (wc_J19_equals X.2.2.2.2.2.2.2.1 hF) (lw_meth q1059) (X.2.2.2.2.1 _ hlk) (X.2.2.2.2.1 _ q1038) (zc_declC X q1037 q1059) (X.2.2.2.2.1 _ q1046) q1037 q2244 ⟨by decide, by decide, rfl⟩ (zc_rm_le hR9 (by decide) (by decide)) rfl hsize hst hcat hdg hf
set_option maxHeartbeats 4000000 in
set_option maxRecDepth 100000 in
theorem wc_J2_indexOfRange_42 {p : Program} {l : Launch} {e : Env} {s : State} {m : MethodId} {args : Array Value} {below : List Frame} {meth : Method} {c : Code} {D : va_G} {cA : Nat → ClassId} {P : Nat → Prop} {G : Nat × Nat × Nat} {C S : Nat} {o : Nat} {Q : Int32 → Prop} {h0 : ZH} (X : zc_Cx p l s m args meth c cJ2_indexOfRange 6 (some .int) "java/util/ArrayList" D cA P G) (hN : meth.name = "indexOfRange") (hT : c.exceptionTable.toList = tableOf []) :
    ∀ (n : Nat) (h : ZH) (q1 : Option Nat) (v3 : Int32) (q4 : Option Nat) (v5 : Int32), fc_J2_indexOfRange_42 G o Q n h q1 v3 q4 v5 → ∀ (H : Heap) (locs : List Loc) (ls : Array Slot) (cells slots : Nat), cells + 0 ≤ C ∧ slots + 0 ≤ S → h0 = h → lv_has ls 6 [(0, .ref o), (1, va_rf q1), (3, .int v3), (4, va_rf q4), (5, .int v5)] → zc_H D cA P h s H locs → W p l e (zc_Ro 2 C S) s m args below meth c H locs cells slots (vx_MQ below (zc_Q D cA P (fun v h' => ∃ z : Int32, v = some (.int z) ∧ Q z ∧ h0 = h')) (zc_X D cA P zc_no) args s C S P) (F0 m 42 ls []) := by
  have hx := X.1
  have hb := X.2.1
  have hown := X.2.2.2.1
  have hts := X.2.2.2.2.1
  intro n
  induction n with
  | zero =>
    intro h q1 v3 q4 v5 hF
    exact False.elim hF
  | succ n ih =>
    intro h q1 v3 q4 v5 hF
    intro H locs ls cells slots hB eh hl hH
    unfold fc_J2_indexOfRange_42 at hF
    refine lv_iload hx hb dJ2_indexOfRange_42 (lv_at hl 4 rfl) ?_
    refine lv_iload_n hx hb dJ2_indexOfRange_44 rfl (lv_at hl 2 rfl) ?_
    refine lv_icmp_ge (tgt := 69) hx hb dJ2_indexOfRange_45 (by decide) (fun cd => ?_) (fun cd => ?_)
    · have hF := hF.1 cd
      refine lv_iconst (v := (-1)) hx hb dJ2_indexOfRange_69 (by decide) ?_
      exact zc_iret X hH hB rfl rfl ⟨_, rfl, hF, eh⟩ dJ2_indexOfRange_70
    · have hF := hF.2 cd
      refine zq_aload_n hx hb dJ2_indexOfRange_48 rfl (lv_at hl 1 rfl) ?_
      refine zq_aload hx hb dJ2_indexOfRange_49 (lv_at hl 3 rfl) ?_
      refine lv_iload hx hb dJ2_indexOfRange_51 (lv_at hl 4 rfl) ?_
      obtain ⟨b1, eb1, hF⟩ := hF
      refine zq_st (st2 := [.int v5, .ref b1, va_rf q1]) (by rw [eb1]; first | done | rfl) ?_
      obtain ⟨hc, hF⟩ := hF
      obtain ⟨hI, hF⟩ := hF
      refine zc_aald X hH [22] 2 hc (by decide) hI dJ2_indexOfRange_53 ?_
      obtain ⟨b2, eb2, hF⟩ := hF
      refine zq_st (st2 := [va_rf (zs h 2 b1 v5.toNatClampNeg), .ref b2]) (by rw [eb2]; first | done | rfl) ?_
      refine zc_call (c1 := 0) (s1 := 0) (rest := []) hH hB (Nat.zero_le _) (Nat.zero_le _) (fun hf => rv_equals_4 X hH q1036 hF ⟨Nat.le_of_ble_eq_true rfl, Nat.le_of_ble_eq_true rfl, Nat.le_of_ble_eq_true rfl⟩ hl.1 (st0 := [va_rf (zs h 2 b1 v5.toNatClampNeg), .ref b2]) rfl (Nat.le_of_ble_eq_true rfl) dJ2_indexOfRange_54 hf) (fun E9 ce9 q9 h9 H locs hx9 => False.elim hx9) (fun v9 h9 H locs hv9 hH hB => ?_)
      obtain ⟨z3, rfl, hF, rfl⟩ := hv9
      refine lv_if_eq (tgt := 63) hx hb dJ2_indexOfRange_57 (by decide) (fun cd => ?_) (fun cd => ?_)
      · have hF := hF.1 cd
        obtain ⟨x4, ex4⟩ : ∃ z : Int32, z = v5 + 1 := ⟨_, rfl⟩
        have hF := hF x4 ex4
        refine lv_iinc (v := x4) (lv' := [(5, .int x4), (0, .ref o), (1, va_rf q1), (3, .int v3), (4, va_rf q4)]) hx hb dJ2_indexOfRange_63 hl (k := 4) rfl (by rw [ex4]; rfl) (by decide) (by cases q4 <;> rfl) (fun ls hl => ?_)
        refine lv_goto (tgt := 42) hx hb dJ2_indexOfRange_66 (by decide) ?_
        exact ih h q1 v3 q4 x4 hF _ _ _ _ _ hB eh (lv_sub hl [1, 2, 3, 4, 0] rfl) hH
      · have hF := hF.2 cd
        refine lv_iload hx hb dJ2_indexOfRange_60 (lv_at hl 4 rfl) ?_
        exact zc_iret X hH hB rfl rfl ⟨_, rfl, hF, eh⟩ dJ2_indexOfRange_62
set_option maxHeartbeats 4000000 in
set_option maxRecDepth 100000 in
theorem wc_J2_indexOfRange_13 {p : Program} {l : Launch} {e : Env} {s : State} {m : MethodId} {args : Array Value} {below : List Frame} {meth : Method} {c : Code} {D : va_G} {cA : Nat → ClassId} {P : Nat → Prop} {G : Nat × Nat × Nat} {C S : Nat} {o : Nat} {Q : Int32 → Prop} {h0 : ZH} (X : zc_Cx p l s m args meth c cJ2_indexOfRange 6 (some .int) "java/util/ArrayList" D cA P G) (hN : meth.name = "indexOfRange") (hT : c.exceptionTable.toList = tableOf []) :
    ∀ (n : Nat) (h : ZH) (v3 : Int32) (q4 : Option Nat) (v5 : Int32), fc_J2_indexOfRange_13 G o Q n h v3 q4 v5 → ∀ (H : Heap) (locs : List Loc) (ls : Array Slot) (cells slots : Nat), cells + 0 ≤ C ∧ slots + 0 ≤ S → h0 = h → lv_has ls 6 [(0, .ref o), (3, .int v3), (4, va_rf q4), (5, .int v5)] → zc_H D cA P h s H locs → W p l e (zc_Ro 2 C S) s m args below meth c H locs cells slots (vx_MQ below (zc_Q D cA P (fun v h' => ∃ z : Int32, v = some (.int z) ∧ Q z ∧ h0 = h')) (zc_X D cA P zc_no) args s C S P) (F0 m 13 ls []) := by
  have hx := X.1
  have hb := X.2.1
  have hown := X.2.2.2.1
  have hts := X.2.2.2.2.1
  intro n
  induction n with
  | zero =>
    intro h v3 q4 v5 hF
    exact False.elim hF
  | succ n ih =>
    intro h v3 q4 v5 hF
    intro H locs ls cells slots hB eh hl hH
    unfold fc_J2_indexOfRange_13 at hF
    refine lv_iload hx hb dJ2_indexOfRange_13 (lv_at hl 3 rfl) ?_
    refine lv_iload_n hx hb dJ2_indexOfRange_15 rfl (lv_at hl 1 rfl) ?_
    refine lv_icmp_ge (tgt := 36) hx hb dJ2_indexOfRange_16 (by decide) (fun cd => ?_) (fun cd => ?_)
    · have hF := hF.1 cd
      refine lv_goto (tgt := 69) hx hb dJ2_indexOfRange_36 (by decide) ?_
      refine lv_iconst (v := (-1)) hx hb dJ2_indexOfRange_69 (by decide) ?_
      exact zc_iret X hH hB rfl rfl ⟨_, rfl, hF, eh⟩ dJ2_indexOfRange_70
    · have hF := hF.2 cd
      refine zq_aload hx hb dJ2_indexOfRange_19 (lv_at hl 2 rfl) ?_
      refine lv_iload hx hb dJ2_indexOfRange_21 (lv_at hl 3 rfl) ?_
      obtain ⟨b1, eb1, hF⟩ := hF
      refine zq_st (st2 := [.int v5, .ref b1]) (by rw [eb1]; first | done | rfl) ?_
      obtain ⟨hc, hF⟩ := hF
      obtain ⟨hI, hF⟩ := hF
      refine zc_aald X hH [22] 2 hc (by decide) hI dJ2_indexOfRange_23 ?_
      refine zq_ifnonnull (tgt := 30) hx hb dJ2_indexOfRange_24 (by decide) (fun b2 eb2 => ?_) (fun cd => ?_)
      · have hF := hF.2 b2 eb2
        obtain ⟨x3, ex3⟩ : ∃ z : Int32, z = v5 + 1 := ⟨_, rfl⟩
        have hF := hF x3 ex3
        refine lv_iinc (v := x3) (lv' := [(5, .int x3), (0, .ref o), (3, .int v3), (4, va_rf q4)]) hx hb dJ2_indexOfRange_30 hl (k := 3) rfl (by rw [ex3]; rfl) (by decide) (by cases q4 <;> rfl) (fun ls hl => ?_)
        refine lv_goto (tgt := 13) hx hb dJ2_indexOfRange_33 (by decide) ?_
        exact ih h v3 q4 x3 hF _ _ _ _ _ hB eh (lv_sub hl [1, 2, 3, 0] rfl) hH
      · have hF := hF.1 cd
        refine lv_iload hx hb dJ2_indexOfRange_27 (lv_at hl 3 rfl) ?_
        exact zc_iret X hH hB rfl rfl ⟨_, rfl, hF, eh⟩ dJ2_indexOfRange_29
set_option maxHeartbeats 4000000 in
set_option maxRecDepth 100000 in
theorem wc_J2_indexOfRange {l : Launch} {D : va_G} {cA : Nat → ClassId} {P : Nat → Prop} {G : Nat × Nat × Nat} {o : Nat} {Q : Int32 → Prop} {h : ZH} {C S : Nat} {q1 : Option Nat} {v2 : Int32} {v3 : Int32} (hl9 : l.stackTraces = false) (hF : fc_J2_indexOfRange G o Q h q1 v2 v3) :
    zc_M l yJ2_indexOfRange (ws_ yJ2_indexOfRange cJ2_indexOfRange 6 (some .int)) 2 D cA P G [.ref o, va_rf q1, .int v2, .int v3] h C S (fun v h' => ∃ z : Int32, v = some (.int z) ∧ Q z ∧ h = h') zc_no := by
  refine zc_ofF hl9 rfl (by decide +kernel) (zc_slle (by simp [zc_k1, zc_kI, zc_kR]) (Nat.le_of_ble_eq_true rfl)) ?_
  intro p e s m args below meth c H locs ls X hN hT hH hl
  have hx := X.1
  have hb := X.2.1
  have hown := X.2.2.2.1
  have hts := X.2.2.2.2.1
  have hl : lv_has ls 6 [(0, .ref o), (1, va_rf q1), (2, .int v2), (3, .int v3)] := by
    have h9 := hl
    rw [zc_ags _ (by simp [zc_k1, zc_kI, zc_kR]) 0] at h9
    exact h9
  have hB : 0 + 0 ≤ C ∧ 0 + 0 ≤ S := ⟨by omega, by omega⟩
  have eh : h = h := rfl
  unfold fc_J2_indexOfRange at hF
  refine lv_aload_n hx hb dJ2_indexOfRange_0 rfl (lv_at hl 0 rfl) ?_
  obtain ⟨hc, hF⟩ := hF
  refine zc_getf X hH hc 1 301 ("java/util/ArrayList", "elementData", "[Ljava/lang/Object;", false) (by decide +kernel) (v := va_rf (zr h 301 o)) rfl q171 (Or.inl rfl) dJ2_indexOfRange_1 ?_
  refine zq_top (fun r1 er1 => ?_)
  have hF := hF r1 er1
  refine zq_astore (r := r1) (lv' := [(4, va_rf r1), (0, .ref o), (1, va_rf q1), (2, .int v2), (3, .int v3)]) hx hb rfl dJ2_indexOfRange_4 hl (by decide) rfl (fun ls hl => ?_)
  refine zq_aload_n hx hb dJ2_indexOfRange_6 rfl (lv_at hl 2 rfl) ?_
  refine zq_ifnonnull (tgt := 39) hx hb dJ2_indexOfRange_7 (by decide) (fun b2 eb2 => ?_) (fun cd => ?_)
  · have hF := hF.2 b2 eb2
    refine lv_iload_n hx hb dJ2_indexOfRange_39 rfl (lv_at hl 3 rfl) ?_
    refine lv_istore (lv' := [(5, .int v2), (4, va_rf r1), (0, .ref o), (1, va_rf q1), (2, .int v2), (3, .int v3)]) hx hb dJ2_indexOfRange_40 hl (by decide) (by cases r1 <;> rfl) (fun ls hl => ?_)
    obtain ⟨n9, hF⟩ := hF
    exact wc_J2_indexOfRange_42 X hN hT n9 h q1 v3 r1 v2 hF _ _ _ _ _ hB eh (lv_sub hl [2, 3, 5, 1, 0] rfl) hH
  · have hF := hF.1 cd
    refine lv_iload_n hx hb dJ2_indexOfRange_10 rfl (lv_at hl 3 rfl) ?_
    refine lv_istore (lv' := [(5, .int v2), (4, va_rf r1), (0, .ref o), (1, va_rf q1), (2, .int v2), (3, .int v3)]) hx hb dJ2_indexOfRange_11 hl (by decide) (by cases r1 <;> rfl) (fun ls hl => ?_)
    obtain ⟨n9, hF⟩ := hF
    exact wc_J2_indexOfRange_13 X hN hT n9 h v3 r1 v2 hF _ _ _ _ _ hB eh (lv_sub hl [2, 5, 1, 0] rfl) hH
set_option maxHeartbeats 4000000 in
set_option maxRecDepth 100000 in
theorem wc_J2_indexOf {l : Launch} {D : va_G} {cA : Nat → ClassId} {P : Nat → Prop} {G : Nat × Nat × Nat} {o : Nat} {Q : Int32 → Prop} {h : ZH} {C S : Nat} {q1 : Option Nat} (hl9 : l.stackTraces = false) (hF : fc_J2_indexOf G o Q h q1) :
    zc_M l yJ2_indexOf (ws_ yJ2_indexOf cJ2_indexOf 2 (some .int)) 3 D cA P G [.ref o, va_rf q1] h C S (fun v h' => ∃ z : Int32, v = some (.int z) ∧ Q z ∧ h = h') zc_no := by
  refine zc_ofF hl9 rfl (by decide +kernel) (zc_slle (by simp [zc_k1, zc_kI, zc_kR]) (Nat.le_of_ble_eq_true rfl)) ?_
  intro p e s m args below meth c H locs ls X hN hT hH hl
  have hx := X.1
  have hb := X.2.1
  have hown := X.2.2.2.1
  have hts := X.2.2.2.2.1
  have hl : lv_has ls 2 [(0, .ref o), (1, va_rf q1)] := by
    have h9 := hl
    rw [zc_ags _ (by simp [zc_k1, zc_kI, zc_kR]) 0] at h9
    exact h9
  have hB : 0 + 0 ≤ C ∧ 0 + 0 ≤ S := ⟨by omega, by omega⟩
  have eh : h = h := rfl
  unfold fc_J2_indexOf at hF
  refine lv_aload_n hx hb dJ2_indexOf_0 rfl (lv_at hl 0 rfl) ?_
  refine zq_aload_n hx hb dJ2_indexOf_1 rfl (lv_at hl 1 rfl) ?_
  refine lv_iconst (v := 0) hx hb dJ2_indexOf_2 (by decide) ?_
  refine lv_aload_n hx hb dJ2_indexOf_3 rfl (lv_at hl 0 rfl) ?_
  obtain ⟨hc, hF⟩ := hF
  refine zc_getf X hH hc 2 302 ("java/util/ArrayList", "size", "I", false) (by decide +kernel) (v := .int (zi h 302 o)) rfl q172 (Or.inl rfl) dJ2_indexOf_4 ?_
  obtain ⟨hc, hF⟩ := hF
  refine zc_call (c1 := 0) (s1 := 0) (rest := []) hH hB (Nat.zero_le _) (Nat.zero_le _) (fun hf => zc_rV X hH hc (by decide) rfl (As := [va_rf q1, .int 0, .int (zi h 302 o)]) (wc_J2_indexOfRange X.2.2.2.2.2.2.2.1 hF) (lw_V q1031 q1032 q1033 q94 q1034) ⟨rfl, by decide, by decide, rfl⟩ ⟨Nat.le_of_ble_eq_true rfl, Nat.le_of_ble_eq_true rfl, Nat.le_of_ble_eq_true rfl⟩ rfl hl.1 (st0 := [.int (zi h 302 o), .int 0, va_rf q1, .ref o]) rfl (Nat.le_of_ble_eq_true rfl) dJ2_indexOf_7 hf) (fun E9 ce9 q9 h9 H locs hx9 => False.elim hx9) (fun v9 h9 H locs hv9 hH hB => ?_)
  obtain ⟨z1, rfl, hF, rfl⟩ := hv9
  exact zc_iret X hH hB rfl rfl ⟨_, rfl, hF, eh⟩ dJ2_indexOf_10
set_option maxHeartbeats 4000000 in
set_option maxRecDepth 100000 in
theorem wc_J2_contains {l : Launch} {D : va_G} {cA : Nat → ClassId} {P : Nat → Prop} {G : Nat × Nat × Nat} {o : Nat} {Q : Int32 → Prop} {h : ZH} {C S : Nat} {q1 : Option Nat} (hl9 : l.stackTraces = false) (hF : fc_J2_contains G o Q h q1) :
    zc_M l yJ2_contains (ws_ yJ2_contains cJ2_contains 2 (some .boolean)) 4 D cA P G [.ref o, va_rf q1] h C S (fun v h' => ∃ z : Int32, v = some (.int z) ∧ Q z ∧ h = h') zc_no := by
  refine zc_ofF hl9 rfl (by decide +kernel) (zc_slle (by simp [zc_k1, zc_kI, zc_kR]) (Nat.le_of_ble_eq_true rfl)) ?_
  intro p e s m args below meth c H locs ls X hN hT hH hl
  have hx := X.1
  have hb := X.2.1
  have hown := X.2.2.2.1
  have hts := X.2.2.2.2.1
  have hl : lv_has ls 2 [(0, .ref o), (1, va_rf q1)] := by
    have h9 := hl
    rw [zc_ags _ (by simp [zc_k1, zc_kI, zc_kR]) 0] at h9
    exact h9
  have hB : 0 + 0 ≤ C ∧ 0 + 0 ≤ S := ⟨by omega, by omega⟩
  have eh : h = h := rfl
  unfold fc_J2_contains at hF
  refine lv_aload_n hx hb dJ2_contains_0 rfl (lv_at hl 0 rfl) ?_
  refine zq_aload_n hx hb dJ2_contains_1 rfl (lv_at hl 1 rfl) ?_
  obtain ⟨hc, hF⟩ := hF
  refine zc_call (c1 := 0) (s1 := 0) (rest := []) hH hB (Nat.zero_le _) (Nat.zero_le _) (fun hf => zc_rV X hH hc (by decide) rfl (As := [va_rf q1]) (wc_J2_indexOf X.2.2.2.2.2.2.2.1 hF) (lw_V q1027 q1028 q1029 q94 q1030) ⟨rfl, by decide, by decide, rfl⟩ ⟨Nat.le_of_ble_eq_true rfl, Nat.le_of_ble_eq_true rfl, Nat.le_of_ble_eq_true rfl⟩ rfl hl.1 (st0 := [va_rf q1, .ref o]) rfl (Nat.le_of_ble_eq_true rfl) dJ2_contains_2 hf) (fun E9 ce9 q9 h9 H locs hx9 => False.elim hx9) (fun v9 h9 H locs hv9 hH hB => ?_)
  obtain ⟨z1, rfl, hF, rfl⟩ := hv9
  refine lv_if_lt (tgt := 12) hx hb dJ2_contains_5 (by decide) (fun cd => ?_) (fun cd => ?_)
  · have hF := hF.1 cd
    refine lv_iconst (v := 0) hx hb dJ2_contains_12 (by decide) ?_
    exact zc_iret X hH hB rfl rfl ⟨_, rfl, hF, eh⟩ dJ2_contains_13
  · have hF := hF.2 cd
    refine lv_iconst (v := 1) hx hb dJ2_contains_8 (by decide) ?_
    refine lv_goto (tgt := 13) hx hb dJ2_contains_9 (by decide) ?_
    exact zc_iret X hH hB rfl rfl ⟨_, rfl, hF, eh⟩ dJ2_contains_13
set_option maxHeartbeats 4000000 in
set_option maxRecDepth 100000 in
theorem wc_X5_orders {l : Launch} {D : va_G} {cA : Nat → ClassId} {P : Nat → Prop} {G : Nat × Nat × Nat} {o : Nat} {Q : ZH → Prop} {h : ZH} {C S : Nat} {q1 : Option Nat} {q2 : Option Nat} (hl9 : l.stackTraces = false) (hF : fc_X5_orders G o Q h C S q1 q2) :
    zc_M l yX5_orders (ws_ yX5_orders cX5_orders 3 none) 8 D cA P G [.ref o, va_rf q1, va_rf q2] h C S (fun v h' => v = none ∧ Q h') zc_no := by
  refine zc_ofF hl9 rfl (by decide +kernel) (zc_slle (by simp [zc_k1, zc_kI, zc_kR]) (Nat.le_of_ble_eq_true rfl)) ?_
  intro p e s m args below meth c H locs ls X hN hT hH hl
  have hx := X.1
  have hb := X.2.1
  have hown := X.2.2.2.1
  have hts := X.2.2.2.2.1
  have hl : lv_has ls 3 [(0, .ref o), (1, va_rf q1), (2, va_rf q2)] := by
    have h9 := hl
    rw [zc_ags _ (by simp [zc_k1, zc_kI, zc_kR]) 0] at h9
    exact h9
  have hB : 0 + C ≤ C ∧ 0 + S ≤ S := ⟨by omega, by omega⟩
  unfold fc_X5_orders at hF
  refine zq_aload_n hx hb dX5_orders_0 rfl (lv_at hl 2 rfl) ?_
  refine zq_ifnull (tgt := 31) hx hb dX5_orders_1 (by decide) (fun cd => ?_) (fun b1 eb1 => ?_)
  · have hF := hF.1 cd
    exact zc_vret X hH hB rfl ⟨rfl, hF⟩ dX5_orders_31
  · have hF := hF.2 b1 eb1
    refine zq_aload_n hx hb dX5_orders_4 rfl (lv_at hl 2 rfl) ?_
    refine zq_st (st2 := [.ref b1]) (by rw [eb1]; first | done | rfl) ?_
    obtain ⟨hc, hF⟩ := hF
    refine zc_getf X hH hc 2 702 ("ChurchyardBook$Person", "isDead", "Z", false) (by decide +kernel) (v := .int (zi h 702 b1)) rfl q868 (Or.inl rfl) dX5_orders_5 ?_
    refine lv_if_ne (tgt := 31) hx hb dX5_orders_8 (by decide) (fun cd => ?_) (fun cd => ?_)
    · have hF := hF.1 cd
      exact zc_vret X hH hB rfl ⟨rfl, hF⟩ dX5_orders_31
    · have hF := hF.2 cd
      refine zq_aload_n hx hb dX5_orders_11 rfl (lv_at hl 1 rfl) ?_
      obtain ⟨b2, eb2, hF⟩ := hF
      refine zq_st (st2 := [.ref b2]) (by rw [eb2]; first | done | rfl) ?_
      obtain ⟨hc, hF⟩ := hF
      refine zc_getf X hH hc 11 611 ("ChurchyardBook$Grave", "order", "Ljava/util/ArrayList;", true) (by decide +kernel) (v := va_rf (zr h 611 b2)) rfl q686 (Or.inl rfl) dX5_orders_12 ?_
      refine zq_aload_n hx hb dX5_orders_15 rfl (lv_at hl 2 rfl) ?_
      obtain ⟨b3, eb3, hF⟩ := hF
      refine zq_st (st2 := [va_rf q2, .ref b3]) (by rw [eb3]; first | done | rfl) ?_
      obtain ⟨hc, hF⟩ := hF
      refine zc_call (c1 := 0) (s1 := 0) (rest := []) hH hB (Nat.zero_le _) (Nat.zero_le _) (fun hf => zc_rV X hH hc (by decide) rfl (As := [va_rf q2]) (wc_J2_contains X.2.2.2.2.2.2.2.1 hF) (lw_V q1023 q1024 q1025 q94 q1026) ⟨rfl, by decide, by decide, rfl⟩ ⟨Nat.le_of_ble_eq_true rfl, Nat.le_of_ble_eq_true rfl, Nat.le_of_ble_eq_true rfl⟩ rfl hl.1 (st0 := [va_rf q2, .ref b3]) rfl (Nat.le_of_ble_eq_true rfl) dX5_orders_16 hf) (fun E9 ce9 q9 h9 H locs hx9 => False.elim hx9) (fun v9 h9 H locs hv9 hH hB => ?_)
      obtain ⟨z4, rfl, hF, rfl⟩ := hv9
      refine lv_if_ne (tgt := 31) hx hb dX5_orders_19 (by decide) (fun cd => ?_) (fun cd => ?_)
      · have hF := hF.1 cd
        exact zc_vret X hH hB rfl ⟨rfl, hF⟩ dX5_orders_31
      · have hF := hF.2 cd
        refine zq_aload_n hx hb dX5_orders_22 rfl (lv_at hl 1 rfl) ?_
        refine zq_st (st2 := [.ref b2]) (by rw [eb2]; first | done | rfl) ?_
        obtain ⟨hc, hF⟩ := hF
        refine zc_getf X hH hc 11 611 ("ChurchyardBook$Grave", "order", "Ljava/util/ArrayList;", true) (by decide +kernel) (v := va_rf (zr h 611 b2)) rfl q686 (Or.inl rfl) dX5_orders_23 ?_
        refine zq_aload_n hx hb dX5_orders_26 rfl (lv_at hl 2 rfl) ?_
        refine zq_st (st2 := [va_rf q2, .ref b3]) (by rw [eb3]; first | done | rfl) ?_
        obtain ⟨hc, hF⟩ := hF
        obtain ⟨c5, s6, hc1, hs1, hF⟩ := hF
        refine zc_call (c1 := c5) (s1 := s6) (rest := []) hH hB hc1 hs1 (fun hf => zc_rV X hH hc (by decide) rfl (As := [va_rf q2]) (wc_J2_add X.2.2.2.2.2.2.2.1 hF) (lw_V q376 q377 q378 q94 q379) ⟨rfl, by decide, by decide, rfl⟩ ⟨Nat.le_of_ble_eq_true rfl, Nat.le_of_ble_eq_true rfl, Nat.le_of_ble_eq_true rfl⟩ rfl hl.1 (st0 := [va_rf q2, .ref b3]) rfl (Nat.le_of_ble_eq_true rfl) dX5_orders_27 hf) (fun E9 ce9 q9 h9 H locs hx9 => False.elim hx9) (fun v9 h8 H locs hv9 hH hB => ?_)
        obtain ⟨z7, rfl, hF⟩ := hv9
        refine lv_pop hx hb dX5_orders_30 rfl ?_
        exact zc_vret X hH hB rfl ⟨rfl, hF⟩ dX5_orders_31
set_option maxHeartbeats 4000000 in
set_option maxRecDepth 100000 in
theorem wc_X16_isSiblingOf_41 {p : Program} {l : Launch} {e : Env} {s : State} {m : MethodId} {args : Array Value} {below : List Frame} {meth : Method} {c : Code} {D : va_G} {cA : Nat → ClassId} {P : Nat → Prop} {G : Nat × Nat × Nat} {C S : Nat} {o : Nat} {Q : Int32 → Prop} {h0 : ZH} (X : zc_Cx p l s m args meth c cX16_isSiblingOf 2 (some .boolean) "ChurchyardBook$Person" D cA P G) (hN : meth.name = "isSiblingOf") (hT : c.exceptionTable.toList = tableOf []) :
    ∀ (h : ZH), fc_X16_isSiblingOf_41 G o Q h → ∀ (H : Heap) (locs : List Loc) (ls : Array Slot) (cells slots : Nat), cells + 0 ≤ C ∧ slots + 0 ≤ S → h0 = h → lv_has ls 2 [(0, .ref o)] → zc_H D cA P h s H locs → W p l e (zc_Ro 2 C S) s m args below meth c H locs cells slots (vx_MQ below (zc_Q D cA P (fun v h' => ∃ z : Int32, v = some (.int z) ∧ Q z ∧ h0 = h')) (zc_X D cA P zc_no) args s C S P) (F0 m 41 ls []) := by
  have hx := X.1
  have hb := X.2.1
  have hown := X.2.2.2.1
  have hts := X.2.2.2.2.1
  intro h hF
  intro H locs ls cells slots hB eh hl hH
  unfold fc_X16_isSiblingOf_41 at hF
  refine lv_iconst (v := 1) hx hb dX16_isSiblingOf_41 (by decide) ?_
  refine lv_goto (tgt := 46) hx hb dX16_isSiblingOf_42 (by decide) ?_
  exact zc_iret X hH hB rfl rfl ⟨_, rfl, hF, eh⟩ dX16_isSiblingOf_46
set_option maxHeartbeats 4000000 in
set_option maxRecDepth 100000 in
theorem wc_X16_isSiblingOf_23 {p : Program} {l : Launch} {e : Env} {s : State} {m : MethodId} {args : Array Value} {below : List Frame} {meth : Method} {c : Code} {D : va_G} {cA : Nat → ClassId} {P : Nat → Prop} {G : Nat × Nat × Nat} {C S : Nat} {o : Nat} {Q : Int32 → Prop} {h0 : ZH} (X : zc_Cx p l s m args meth c cX16_isSiblingOf 2 (some .boolean) "ChurchyardBook$Person" D cA P G) (hN : meth.name = "isSiblingOf") (hT : c.exceptionTable.toList = tableOf []) :
    ∀ (h : ZH) (q1 : Option Nat), fc_X16_isSiblingOf_23 G o Q h q1 → ∀ (H : Heap) (locs : List Loc) (ls : Array Slot) (cells slots : Nat), cells + 0 ≤ C ∧ slots + 0 ≤ S → h0 = h → lv_has ls 2 [(0, .ref o), (1, va_rf q1)] → zc_H D cA P h s H locs → W p l e (zc_Ro 2 C S) s m args below meth c H locs cells slots (vx_MQ below (zc_Q D cA P (fun v h' => ∃ z : Int32, v = some (.int z) ∧ Q z ∧ h0 = h')) (zc_X D cA P zc_no) args s C S P) (F0 m 23 ls []) := by
  have hx := X.1
  have hb := X.2.1
  have hown := X.2.2.2.1
  have hts := X.2.2.2.2.1
  intro h q1 hF
  intro H locs ls cells slots hB eh hl hH
  unfold fc_X16_isSiblingOf_23 at hF
  refine lv_aload_n hx hb dX16_isSiblingOf_23 rfl (lv_at hl 0 rfl) ?_
  obtain ⟨hc, hF⟩ := hF
  refine zc_getf X hH hc 6 706 ("ChurchyardBook$Person", "second", "LChurchyardBook$Person;", false) (by decide +kernel) (v := va_rf (zr h 706 o)) rfl q879 (Or.inl rfl) dX16_isSiblingOf_24 ?_
  refine zq_ifnull (tgt := 45) hx hb dX16_isSiblingOf_27 (by decide) (fun cd => ?_) (fun b1 eb1 => ?_)
  · have hF := hF.1 cd
    refine lv_iconst (v := 0) hx hb dX16_isSiblingOf_45 (by decide) ?_
    exact zc_iret X hH hB rfl rfl ⟨_, rfl, hF, eh⟩ dX16_isSiblingOf_46
  · have hF := hF.2 b1 eb1
    refine lv_aload_n hx hb dX16_isSiblingOf_30 rfl (lv_at hl 0 rfl) ?_
    obtain ⟨hc, hF⟩ := hF
    refine zc_getf X hH hc 6 706 ("ChurchyardBook$Person", "second", "LChurchyardBook$Person;", false) (by decide +kernel) (v := va_rf (zr h 706 o)) rfl q879 (Or.inl rfl) dX16_isSiblingOf_31 ?_
    refine zq_aload_n hx hb dX16_isSiblingOf_34 rfl (lv_at hl 1 rfl) ?_
    refine zq_st (st2 := [va_rf q1, .ref b1]) (by rw [eb1]; first | done | rfl) ?_
    obtain ⟨hc, hF⟩ := hF
    refine zc_call (c1 := 0) (s1 := 0) (rest := []) hH hB (Nat.zero_le _) (Nat.zero_le _) (fun hf => zc_rV X hH hc (by decide) rfl (As := [va_rf q1]) (wc_X16_isParentOf X.2.2.2.2.2.2.2.1 hF) (lw_V q1068 q942 q943 q121 q944) ⟨rfl, by decide, by decide, rfl⟩ ⟨Nat.le_of_ble_eq_true rfl, Nat.le_of_ble_eq_true rfl, Nat.le_of_ble_eq_true rfl⟩ rfl hl.1 (st0 := [va_rf q1, .ref b1]) rfl (Nat.le_of_ble_eq_true rfl) dX16_isSiblingOf_35 hf) (fun E9 ce9 q9 h9 H locs hx9 => False.elim hx9) (fun v9 h9 H locs hv9 hH hB => ?_)
    obtain ⟨z2, rfl, hF, rfl⟩ := hv9
    refine lv_if_eq (tgt := 45) hx hb dX16_isSiblingOf_38 (by decide) (fun cd => ?_) (fun cd => ?_)
    · have hF := hF.1 cd
      refine lv_iconst (v := 0) hx hb dX16_isSiblingOf_45 (by decide) ?_
      exact zc_iret X hH hB rfl rfl ⟨_, rfl, hF, eh⟩ dX16_isSiblingOf_46
    · have hF := hF.2 cd
      exact wc_X16_isSiblingOf_41 X hN hT h hF _ _ _ _ _ hB eh (lv_sub hl [0] rfl) hH
set_option maxHeartbeats 4000000 in
set_option maxRecDepth 100000 in
theorem wc_X16_isSiblingOf {l : Launch} {D : va_G} {cA : Nat → ClassId} {P : Nat → Prop} {G : Nat × Nat × Nat} {o : Nat} {Q : Int32 → Prop} {h : ZH} {C S : Nat} {q1 : Option Nat} (hl9 : l.stackTraces = false) (hF : fc_X16_isSiblingOf G o Q h q1) :
    zc_M l yX16_isSiblingOf (ws_ yX16_isSiblingOf cX16_isSiblingOf 2 (some .boolean)) 2 D cA P G [.ref o, va_rf q1] h C S (fun v h' => ∃ z : Int32, v = some (.int z) ∧ Q z ∧ h = h') zc_no := by
  refine zc_ofF hl9 rfl (by decide +kernel) (zc_slle (by simp [zc_k1, zc_kI, zc_kR]) (Nat.le_of_ble_eq_true rfl)) ?_
  intro p e s m args below meth c H locs ls X hN hT hH hl
  have hx := X.1
  have hb := X.2.1
  have hown := X.2.2.2.1
  have hts := X.2.2.2.2.1
  have hl : lv_has ls 2 [(0, .ref o), (1, va_rf q1)] := by
    have h9 := hl
    rw [zc_ags _ (by simp [zc_k1, zc_kI, zc_kR]) 0] at h9
    exact h9
  have hB : 0 + 0 ≤ C ∧ 0 + 0 ≤ S := ⟨by omega, by omega⟩
  have eh : h = h := rfl
  unfold fc_X16_isSiblingOf at hF
  refine zq_aload_n hx hb dX16_isSiblingOf_0 rfl (lv_at hl 1 rfl) ?_
  refine lv_aload_n hx hb dX16_isSiblingOf_1 rfl (lv_at hl 0 rfl) ?_
  refine lv_acmp_eq (rx := q1) (ry := (some o)) (tgt := 45) hx hb dX16_isSiblingOf_2 (by decide) (fun cd => ?_) (fun cd => ?_)
  · have hF := hF.1 cd
    refine lv_iconst (v := 0) hx hb dX16_isSiblingOf_45 (by decide) ?_
    exact zc_iret X hH hB rfl rfl ⟨_, rfl, hF, eh⟩ dX16_isSiblingOf_46
  · have hF := hF.2 cd
    refine lv_aload_n hx hb dX16_isSiblingOf_5 rfl (lv_at hl 0 rfl) ?_
    obtain ⟨hc, hF⟩ := hF
    refine zc_getf X hH hc 5 705 ("ChurchyardBook$Person", "first", "LChurchyardBook$Person;", false) (by decide +kernel) (v := va_rf (zr h 705 o)) rfl q876 (Or.inl rfl) dX16_isSiblingOf_6 ?_
    refine zq_ifnull (tgt := 23) hx hb dX16_isSiblingOf_9 (by decide) (fun cd => ?_) (fun b1 eb1 => ?_)
    · have hF := hF.1 cd
      exact wc_X16_isSiblingOf_23 X hN hT h q1 hF _ _ _ _ _ hB eh (lv_sub hl [0, 1] rfl) hH
    · have hF := hF.2 b1 eb1
      refine lv_aload_n hx hb dX16_isSiblingOf_12 rfl (lv_at hl 0 rfl) ?_
      obtain ⟨hc, hF⟩ := hF
      refine zc_getf X hH hc 5 705 ("ChurchyardBook$Person", "first", "LChurchyardBook$Person;", false) (by decide +kernel) (v := va_rf (zr h 705 o)) rfl q876 (Or.inl rfl) dX16_isSiblingOf_13 ?_
      refine zq_aload_n hx hb dX16_isSiblingOf_16 rfl (lv_at hl 1 rfl) ?_
      refine zq_st (st2 := [va_rf q1, .ref b1]) (by rw [eb1]; first | done | rfl) ?_
      obtain ⟨hc, hF⟩ := hF
      refine zc_call (c1 := 0) (s1 := 0) (rest := []) hH hB (Nat.zero_le _) (Nat.zero_le _) (fun hf => zc_rV X hH hc (by decide) rfl (As := [va_rf q1]) (wc_X16_isParentOf X.2.2.2.2.2.2.2.1 hF) (lw_V q1068 q942 q943 q121 q944) ⟨rfl, by decide, by decide, rfl⟩ ⟨Nat.le_of_ble_eq_true rfl, Nat.le_of_ble_eq_true rfl, Nat.le_of_ble_eq_true rfl⟩ rfl hl.1 (st0 := [va_rf q1, .ref b1]) rfl (Nat.le_of_ble_eq_true rfl) dX16_isSiblingOf_17 hf) (fun E9 ce9 q9 h9 H locs hx9 => False.elim hx9) (fun v9 h9 H locs hv9 hH hB => ?_)
      obtain ⟨z2, rfl, hF, rfl⟩ := hv9
      refine lv_if_ne (tgt := 41) hx hb dX16_isSiblingOf_20 (by decide) (fun cd => ?_) (fun cd => ?_)
      · have hF := hF.1 cd
        exact wc_X16_isSiblingOf_41 X hN hT h hF _ _ _ _ _ hB eh (lv_sub hl [0] rfl) hH
      · have hF := hF.2 cd
        exact wc_X16_isSiblingOf_23 X hN hT h q1 hF _ _ _ _ _ hB eh (lv_sub hl [0, 1] rfl) hH
set_option maxHeartbeats 4000000 in
set_option maxRecDepth 100000 in
theorem wc_J2_rangeCheckForAdd {l : Launch} {D : va_G} {cA : Nat → ClassId} {P : Nat → Prop} {G : Nat × Nat × Nat} {o : Nat} {Q : Prop} {h : ZH} {C S : Nat} {v1 : Int32} (hl9 : l.stackTraces = false) (hF : fc_J2_rangeCheckForAdd G o Q h v1) :
    zc_M l yJ2_rangeCheckForAdd (ws_ yJ2_rangeCheckForAdd cJ2_rangeCheckForAdd 2 none) 1 D cA P G [.ref o, .int v1] h C S (fun v h' => v = none ∧ Q ∧ h = h') zc_no := by
  refine zc_ofF hl9 rfl (by decide +kernel) (Nat.le_of_ble_eq_true rfl) ?_
  intro p e s m args below meth c H locs ls X hN hT hH hl
  have hx := X.1
  have hb := X.2.1
  have hown := X.2.2.2.1
  have hts := X.2.2.2.2.1
  have hl : lv_has ls 2 [(0, .ref o), (1, .int v1)] := hl
  have hB : 0 + 0 ≤ C ∧ 0 + 0 ≤ S := ⟨by omega, by omega⟩
  have eh : h = h := rfl
  unfold fc_J2_rangeCheckForAdd at hF
  refine lv_iload_n hx hb dJ2_rangeCheckForAdd_0 rfl (lv_at hl 1 rfl) ?_
  refine lv_aload_n hx hb dJ2_rangeCheckForAdd_1 rfl (lv_at hl 0 rfl) ?_
  obtain ⟨hc, hF⟩ := hF
  refine zc_getf X hH hc 2 302 ("java/util/ArrayList", "size", "I", false) (by decide +kernel) (v := .int (zi h 302 o)) rfl q172 (Or.inl rfl) dJ2_rangeCheckForAdd_2 ?_
  refine lv_icmp_gt (tgt := 12) hx hb dJ2_rangeCheckForAdd_5 (by decide) (fun cd => ?_) (fun cd => ?_)
  · have hF := hF.1 cd
    exact False.elim hF
  · have hF := hF.2 cd
    refine lv_iload_n hx hb dJ2_rangeCheckForAdd_8 rfl (lv_at hl 1 rfl) ?_
    refine lv_if_ge (tgt := 25) hx hb dJ2_rangeCheckForAdd_9 (by decide) (fun cd => ?_) (fun cd => ?_)
    · have hF := hF.1 cd
      exact zc_vret X hH hB rfl ⟨rfl, hF, eh⟩ dJ2_rangeCheckForAdd_25
    · have hF := hF.2 cd
      exact False.elim hF
set_option maxHeartbeats 4000000 in
set_option maxRecDepth 100000 in
theorem wc_J2_add_3_38 {p : Program} {l : Launch} {e : Env} {s : State} {m : MethodId} {args : Array Value} {below : List Frame} {meth : Method} {c : Code} {D : va_G} {cA : Nat → ClassId} {P : Nat → Prop} {G : Nat × Nat × Nat} {C S : Nat} {o : Nat} {Q : ZH → Prop} (X : zc_Cx p l s m args meth c cJ2_add_3 5 none "java/util/ArrayList" D cA P G) (hN : meth.name = "add") (hT : c.exceptionTable.toList = tableOf []) :
    ∀ (h : ZH) (bc bs : Nat) (v1 : Int32) (q2 : Option Nat) (v3 : Int32) (q4 : Option Nat), fc_J2_add_3_38 G o Q h bc bs v1 q2 v3 q4 → ∀ (H : Heap) (locs : List Loc) (ls : Array Slot) (cells slots : Nat), cells + bc ≤ C ∧ slots + bs ≤ S → lv_has ls 5 [(0, .ref o), (1, .int v1), (2, va_rf q2), (3, .int v3), (4, va_rf q4)] → zc_H D cA P h s H locs → W p l e (zc_Ro 6 C S) s m args below meth c H locs cells slots (vx_MQ below (zc_Q D cA P (fun v h' => v = none ∧ Q h')) (zc_X D cA P zc_no) args s C S P) (F0 m 38 ls []) := by
  have hx := X.1
  have hb := X.2.1
  have hown := X.2.2.2.1
  have hts := X.2.2.2.2.1
  intro h bc bs v1 q2 v3 q4 hF
  intro H locs ls cells slots hB hl hH
  unfold fc_J2_add_3_38 at hF
  refine zq_aload hx hb dJ2_add_3_38 (lv_at hl 4 rfl) ?_
  refine lv_iload_n hx hb dJ2_add_3_40 rfl (lv_at hl 1 rfl) ?_
  refine zq_aload hx hb dJ2_add_3_41 (lv_at hl 4 rfl) ?_
  refine lv_iload_n hx hb dJ2_add_3_43 rfl (lv_at hl 1 rfl) ?_
  refine lv_iconst (v := 1) hx hb dJ2_add_3_44 (by decide) ?_
  refine lv_iadd hx hb dJ2_add_3_45 ?_
  refine lv_iload_n hx hb dJ2_add_3_46 rfl (lv_at hl 3 rfl) ?_
  refine lv_iload_n hx hb dJ2_add_3_47 rfl (lv_at hl 1 rfl) ?_
  refine lv_isub hx hb dJ2_add_3_48 ?_
  obtain ⟨b1, eb1, hF⟩ := hF
  refine zq_st (st2 := [.int (v3 - v1), .int (v1 + 1), .ref b1, .int v1, va_rf q4]) (by rw [eb1]; first | done | rfl) ?_
  refine zq_st (st2 := [.int (v3 - v1), .int (v1 + 1), .ref b1, .int v1, .ref b1]) (by rw [eb1]; first | done | rfl) ?_
  obtain ⟨ha1, hF⟩ := hF
  obtain ⟨ha2, hF⟩ := hF
  obtain ⟨ha3, hF⟩ := hF
  obtain ⟨ha4, hF⟩ := hF
  obtain ⟨ha5, hF⟩ := hF
  obtain ⟨h2, eh2⟩ : ∃ z : ZH, z = zcps h 2 b1 v1.toNatClampNeg b1 (v1 + 1).toNatClampNeg (v3 - v1).toNatClampNeg := ⟨_, rfl⟩
  have hF := hF h2 eh2
  refine zc_copy (R := zc_Ro 6 C S) (rest := []) X hH hl.1 q1077 q249 q248 q103 2 (by decide) ha1 ha2 ha3 ha4.1 ha4.2.1 ha4.2.2.1 ha4.2.2.2.1 ha4.2.2.2.2 (fun _ => ha5) (h' := h2) eh2 (Nat.le_of_ble_eq_true rfl) (Nat.le_of_ble_eq_true rfl) dJ2_add_3_49 (fun H locs hH => ?_)
  refine zq_aload hx hb dJ2_add_3_52 (lv_at hl 4 rfl) ?_
  refine lv_iload_n hx hb dJ2_add_3_54 rfl (lv_at hl 1 rfl) ?_
  refine zq_aload_n hx hb dJ2_add_3_55 rfl (lv_at hl 2 rfl) ?_
  refine zq_st (st2 := [va_rf q2, .int v1, .ref b1]) (by rw [eb1]; first | done | rfl) ?_
  obtain ⟨hc, hF⟩ := hF
  obtain ⟨hI, hF⟩ := hF
  obtain ⟨hR, hF⟩ := hF
  refine zc_aast X hH [22] 2 hc (by decide) (r := q2) rfl hI hR dJ2_add_3_56 (fun h3 H locs eh3 hH => ?_)
  have hF := hF h3 eh3
  refine lv_aload_n hx hb dJ2_add_3_57 rfl (lv_at hl 0 rfl) ?_
  refine lv_iload_n hx hb dJ2_add_3_58 rfl (lv_at hl 3 rfl) ?_
  refine lv_iconst (v := 1) hx hb dJ2_add_3_59 (by decide) ?_
  refine lv_iadd hx hb dJ2_add_3_60 ?_
  obtain ⟨hc, hF⟩ := hF
  refine zc_puti X hH hc 2 302 ("java/util/ArrayList", "size", "I", false) (by decide +kernel) rfl q172 (Or.inl rfl) (ty := .int) (by decide +kernel) rfl rfl (Or.inl rfl) dJ2_add_3_61 (fun h4 H locs eh4 hH => ?_)
  have hF := hF h4 eh4
  exact zc_vret X hH hB rfl ⟨rfl, hF⟩ dJ2_add_3_64
set_option maxHeartbeats 4000000 in
set_option maxRecDepth 100000 in
theorem wc_J2_add_3 {l : Launch} {D : va_G} {cA : Nat → ClassId} {P : Nat → Prop} {G : Nat × Nat × Nat} {o : Nat} {Q : ZH → Prop} {h : ZH} {C S : Nat} {v1 : Int32} {q2 : Option Nat} (hl9 : l.stackTraces = false) (hF : fc_J2_add_3 G o Q h C S v1 q2) :
    zc_M l yJ2_add_3 (ws_ yJ2_add_3 cJ2_add_3 5 none) 6 D cA P G [.ref o, .int v1, va_rf q2] h C S (fun v h' => v = none ∧ Q h') zc_no := by
  refine zc_ofF hl9 rfl (by decide +kernel) (zc_slle (by simp [zc_k1, zc_kI, zc_kR]) (Nat.le_of_ble_eq_true rfl)) ?_
  intro p e s m args below meth c H locs ls X hN hT hH hl
  have hx := X.1
  have hb := X.2.1
  have hown := X.2.2.2.1
  have hts := X.2.2.2.2.1
  have hl : lv_has ls 5 [(0, .ref o), (1, .int v1), (2, va_rf q2)] := by
    have h9 := hl
    rw [zc_ags _ (by simp [zc_k1, zc_kI, zc_kR]) 0] at h9
    exact h9
  have hB : 0 + C ≤ C ∧ 0 + S ≤ S := ⟨by omega, by omega⟩
  unfold fc_J2_add_3 at hF
  refine lv_aload_n hx hb dJ2_add_3_0 rfl (lv_at hl 0 rfl) ?_
  refine lv_iload_n hx hb dJ2_add_3_1 rfl (lv_at hl 1 rfl) ?_
  obtain ⟨hc, hF⟩ := hF
  refine zc_call (c1 := 0) (s1 := 0) (rest := []) hH hB (Nat.zero_le _) (Nat.zero_le _) (fun hf => zc_rV X hH hc (by decide) rfl (As := [.int v1]) (wc_J2_rangeCheckForAdd X.2.2.2.2.2.2.2.1 hF) (lw_V q1073 q1075 qs14 q94 q1076) ⟨rfl, by decide, by decide, rfl⟩ ⟨Nat.le_of_ble_eq_true rfl, Nat.le_of_ble_eq_true rfl, Nat.le_of_ble_eq_true rfl⟩ rfl hl.1 (st0 := [.int v1, .ref o]) rfl (Nat.le_of_ble_eq_true rfl) dJ2_add_3_2 hf) (fun E9 ce9 q9 h9 H locs hx9 => False.elim hx9) (fun v9 h9 H locs hv9 hH hB => ?_)
  obtain ⟨rfl, hF, rfl⟩ := hv9
  refine lv_aload_n hx hb dJ2_add_3_5 rfl (lv_at hl 0 rfl) ?_
  refine lv_dup hx hb dJ2_add_3_6 rfl ?_
  obtain ⟨hc, hF⟩ := hF
  refine zc_getf X hH hc 0 300 ("java/util/AbstractList", "modCount", "I", false) (by decide +kernel) (v := .int (zi h 300 o)) rfl q174 (Or.inr q175) dJ2_add_3_7 ?_
  refine lv_iconst (v := 1) hx hb dJ2_add_3_10 (by decide) ?_
  refine lv_iadd hx hb dJ2_add_3_11 ?_
  obtain ⟨hc, hF⟩ := hF
  refine zc_puti X hH hc 0 300 ("java/util/AbstractList", "modCount", "I", false) (by decide +kernel) rfl q174 (Or.inr q175) (ty := .int) (by decide +kernel) rfl rfl (Or.inl rfl) dJ2_add_3_12 (fun h1 H locs eh1 hH => ?_)
  have hF := hF h1 eh1
  refine lv_aload_n hx hb dJ2_add_3_15 rfl (lv_at hl 0 rfl) ?_
  obtain ⟨hc, hF⟩ := hF
  refine zc_getf X hH hc 2 302 ("java/util/ArrayList", "size", "I", false) (by decide +kernel) (v := .int (zi h1 302 o)) rfl q172 (Or.inl rfl) dJ2_add_3_16 ?_
  refine lv_dup hx hb dJ2_add_3_19 rfl ?_
  refine lv_topi (fun x2 ex2 => ?_)
  have hF := hF x2 ex2
  refine lv_istore_n (lv' := [(3, .int x2), (0, .ref o), (1, .int v1), (2, va_rf q2)]) hx hb dJ2_add_3_20 rfl hl (by decide) (by cases q2 <;> rfl) (fun ls hl => ?_)
  refine lv_aload_n hx hb dJ2_add_3_21 rfl (lv_at hl 1 rfl) ?_
  obtain ⟨hc, hF⟩ := hF
  refine zc_getf X hH hc 1 301 ("java/util/ArrayList", "elementData", "[Ljava/lang/Object;", false) (by decide +kernel) (v := va_rf (zr h1 301 o)) rfl q171 (Or.inl rfl) dJ2_add_3_22 ?_
  refine lv_dup hx hb dJ2_add_3_25 (by cases (zr h1 301 o) <;> rfl) ?_
  refine zq_top (fun r3 er3 => ?_)
  have hF := hF r3 er3
  refine zq_astore (r := r3) (lv' := [(4, va_rf r3), (3, .int x2), (0, .ref o), (1, .int v1), (2, va_rf q2)]) hx hb rfl dJ2_add_3_26 hl (by decide) rfl (fun ls hl => ?_)
  obtain ⟨b4, eb4, hF⟩ := hF
  refine zq_st (st2 := [.ref b4, .int (zi h1 302 o)]) (by rw [eb4]; first | done | rfl) ?_
  obtain ⟨hc, hF⟩ := hF
  refine zc_alen X hH hc dJ2_add_3_28 ?_
  refine lv_icmp_ne (tgt := 38) hx hb dJ2_add_3_29 (by decide) (fun cd => ?_) (fun cd => ?_)
  · have hF := hF.1 cd
    exact wc_J2_add_3_38 X hN hT h1 C S v1 q2 x2 r3 hF _ _ _ _ _ hB (lv_sub hl [2, 3, 4, 1, 0] rfl) hH
  · have hF := hF.2 cd
    refine lv_aload_n hx hb dJ2_add_3_32 rfl (lv_at hl 2 rfl) ?_
    obtain ⟨hc, hF⟩ := hF
    obtain ⟨c5, s6, hc1, hs1, hF⟩ := hF
    refine zc_call (c1 := c5) (s1 := s6) (rest := []) hH hB hc1 hs1 (fun hf => zc_rV X hH hc (by decide) rfl (As := []) (wc_J2_grow X.2.2.2.2.2.2.2.1 hF) (lw_V q384 q386 qs4 q94 q387) ⟨rfl, by decide, by decide, rfl⟩ ⟨Nat.le_of_ble_eq_true rfl, Nat.le_of_ble_eq_true rfl, Nat.le_of_ble_eq_true rfl⟩ rfl hl.1 (st0 := [.ref o]) rfl (Nat.le_of_ble_eq_true rfl) dJ2_add_3_33 hf) (fun E9 ce9 q9 h9 H locs hx9 => False.elim hx9) (fun v9 h8 H locs hv9 hH hB => ?_)
    obtain ⟨r7, rfl, hF⟩ := hv9
    refine zq_astore (r := r7) (lv' := [(4, va_rf r7), (3, .int x2), (0, .ref o), (1, .int v1), (2, va_rf q2)]) hx hb rfl dJ2_add_3_36 hl (by decide) rfl (fun ls hl => ?_)
    exact wc_J2_add_3_38 X hN hT h8 (C - c5) (S - s6) v1 q2 x2 r7 hF _ _ _ _ _ hB (lv_sub hl [2, 3, 4, 1, 0] rfl) hH
set_option maxHeartbeats 4000000 in
set_option maxRecDepth 100000 in
theorem wc_X5_ordersByAge_126 {p : Program} {l : Launch} {e : Env} {s : State} {m : MethodId} {args : Array Value} {below : List Frame} {meth : Method} {c : Code} {D : va_G} {cA : Nat → ClassId} {P : Nat → Prop} {G : Nat × Nat × Nat} {C S : Nat} {o : Nat} {Q : ZH → Prop} (X : zc_Cx p l s m args meth c cX5_ordersByAge 8 none "ChurchyardBook$Book" D cA P G) (hN : meth.name = "ordersByAge") (hT : c.exceptionTable.toList = tableOf []) :
    ∀ (n : Nat) (h : ZH) (bc bs : Nat) (q1 : Option Nat) (q4 : Option Nat) (v5 : Int32), fc_X5_ordersByAge_126 G o Q n h bc bs q1 q4 v5 → ∀ (H : Heap) (locs : List Loc) (ls : Array Slot) (cells slots : Nat), cells + bc ≤ C ∧ slots + bs ≤ S → lv_has ls 8 [(0, .ref o), (1, va_rf q1), (4, va_rf q4), (5, .int v5)] → zc_H D cA P h s H locs → W p l e (zc_Ro 9 C S) s m args below meth c H locs cells slots (vx_MQ below (zc_Q D cA P (fun v h' => v = none ∧ Q h')) (zc_X D cA P zc_no) args s C S P) (F0 m 126 ls []) := by
  have hx := X.1
  have hb := X.2.1
  have hown := X.2.2.2.1
  have hts := X.2.2.2.2.1
  intro n
  induction n with
  | zero =>
    intro h bc bs q1 q4 v5 hF
    exact False.elim hF
  | succ n ih =>
    intro h bc bs q1 q4 v5 hF
    intro H locs ls cells slots hB hl hH
    unfold fc_X5_ordersByAge_126 at hF
    refine lv_iload hx hb dX5_ordersByAge_126 (lv_at hl 3 rfl) ?_
    refine zq_aload hx hb dX5_ordersByAge_128 (lv_at hl 2 rfl) ?_
    obtain ⟨b1, eb1, hF⟩ := hF
    refine zq_st (st2 := [.ref b1, .int v5]) (by rw [eb1]; first | done | rfl) ?_
    obtain ⟨hc, hF⟩ := hF
    refine zc_call (c1 := 0) (s1 := 0) (rest := [.int v5]) hH hB (Nat.zero_le _) (Nat.zero_le _) (fun hf => zc_rV X hH hc (by decide) rfl (As := []) (wc_J2_size X.2.2.2.2.2.2.2.1 hF) (lw_V q349 q350 q351 q94 q352) ⟨rfl, by decide, by decide, rfl⟩ ⟨Nat.le_of_ble_eq_true rfl, Nat.le_of_ble_eq_true rfl, Nat.le_of_ble_eq_true rfl⟩ rfl hl.1 (st0 := [.ref b1, .int v5]) rfl (Nat.le_of_ble_eq_true rfl) dX5_ordersByAge_130 hf) (fun E9 ce9 q9 h9 H locs hx9 => False.elim hx9) (fun v9 h9 H locs hv9 hH hB => ?_)
    obtain ⟨z2, rfl, hF, rfl⟩ := hv9
    refine lv_icmp_ge (tgt := 157) hx hb dX5_ordersByAge_133 (by decide) (fun cd => ?_) (fun cd => ?_)
    · have hF := hF.1 cd
      exact zc_vret X hH hB rfl ⟨rfl, hF⟩ dX5_ordersByAge_157
    · have hF := hF.2 cd
      refine lv_aload_n hx hb dX5_ordersByAge_136 rfl (lv_at hl 0 rfl) ?_
      refine zq_aload_n hx hb dX5_ordersByAge_137 rfl (lv_at hl 1 rfl) ?_
      refine zq_aload hx hb dX5_ordersByAge_138 (lv_at hl 2 rfl) ?_
      refine lv_iload hx hb dX5_ordersByAge_140 (lv_at hl 3 rfl) ?_
      refine zq_st (st2 := [.int v5, .ref b1, va_rf q1, .ref o]) (by rw [eb1]; first | done | rfl) ?_
      obtain ⟨hc, hF⟩ := hF
      refine zc_call (c1 := 0) (s1 := 0) (rest := [va_rf q1, .ref o]) hH hB (Nat.zero_le _) (Nat.zero_le _) (fun hf => zc_rV X hH hc (by decide) rfl (As := [.int v5]) (wc_J2_get X.2.2.2.2.2.2.2.1 hF) (lw_V q475 q476 q477 q94 q478) ⟨rfl, by decide, by decide, rfl⟩ ⟨Nat.le_of_ble_eq_true rfl, Nat.le_of_ble_eq_true rfl, Nat.le_of_ble_eq_true rfl⟩ rfl hl.1 (st0 := [.int v5, .ref b1, va_rf q1, .ref o]) rfl (by simp only [List.map_cons, List.map_nil, List.sum_cons, List.sum_nil, zc_k1]; exact Nat.le_of_ble_eq_true rfl) dX5_ordersByAge_142 hf) (fun E9 ce9 q9 h9 H locs hx9 => False.elim hx9) (fun v9 h9 H locs hv9 hH hB => ?_)
      obtain ⟨r3, rfl, hF, rfl⟩ := hv9
      obtain ⟨hR, hF⟩ := hF
      refine zc_castY X hH (r := r3) [14] "ChurchyardBook$Person" hR (by decide) (by decide +kernel) q853 dX5_ordersByAge_145 ?_
      obtain ⟨hc, hF⟩ := hF
      obtain ⟨c4, s5, hc1, hs1, hF⟩ := hF
      refine zc_call (c1 := c4) (s1 := s5) (rest := []) hH hB hc1 hs1 (fun hf => zc_rV X hH hc (by decide) rfl (As := [va_rf q1, va_rf r3]) (wc_X5_orders X.2.2.2.2.2.2.2.1 hF) (lw_V q1019 q1021 qs12 q91 q1022) ⟨rfl, by decide, by decide, rfl⟩ ⟨Nat.le_of_ble_eq_true rfl, Nat.le_of_ble_eq_true rfl, Nat.le_of_ble_eq_true rfl⟩ rfl hl.1 (st0 := [va_rf r3, va_rf q1, .ref o]) rfl (Nat.le_of_ble_eq_true rfl) dX5_ordersByAge_148 hf) (fun E9 ce9 q9 h9 H locs hx9 => False.elim hx9) (fun v9 h6 H locs hv9 hH hB => ?_)
      obtain ⟨rfl, hF⟩ := hv9
      obtain ⟨x7, ex7⟩ : ∃ z : Int32, z = v5 + 1 := ⟨_, rfl⟩
      have hF := hF x7 ex7
      refine lv_iinc (v := x7) (lv' := [(5, .int x7), (0, .ref o), (1, va_rf q1), (4, va_rf q4)]) hx hb dX5_ordersByAge_151 hl (k := 3) rfl (by rw [ex7]; rfl) (by decide) (by cases q4 <;> rfl) (fun ls hl => ?_)
      refine lv_goto (tgt := 126) hx hb dX5_ordersByAge_154 (by decide) ?_
      exact ih h6 (bc - c4) (bs - s5) q1 q4 x7 hF _ _ _ _ _ hB (lv_sub hl [1, 2, 3, 0] rfl) hH
set_option maxHeartbeats 4000000 in
set_option maxRecDepth 100000 in
theorem wc_X5_ordersByAge_117 {p : Program} {l : Launch} {e : Env} {s : State} {m : MethodId} {args : Array Value} {below : List Frame} {meth : Method} {c : Code} {D : va_G} {cA : Nat → ClassId} {P : Nat → Prop} {G : Nat × Nat × Nat} {C S : Nat} {o : Nat} {Q : ZH → Prop} {K13 : ZH → Nat → Nat → Option Nat → Option Nat → Int32 → Option Nat → Int32 → Prop} (X : zc_Cx p l s m args meth c cX5_ordersByAge 8 none "ChurchyardBook$Book" D cA P G) (hN : meth.name = "ordersByAge") (hT : c.exceptionTable.toList = tableOf []) (hK13 : ∀ (h : ZH) (bc bs : Nat) (q1 : Option Nat) (q2 : Option Nat) (v3 : Int32) (q4 : Option Nat) (v5 : Int32), K13 h bc bs q1 q2 v3 q4 v5 → ∀ (H : Heap) (locs : List Loc) (ls : Array Slot) (cells slots : Nat), cells + bc ≤ C ∧ slots + bs ≤ S → lv_has ls 8 [(0, .ref o), (1, va_rf q1), (2, va_rf q2), (3, .int v3), (4, va_rf q4), (5, .int v5)] → zc_H D cA P h s H locs → W p l e (zc_Ro 9 C S) s m args below meth c H locs cells slots (vx_MQ below (zc_Q D cA P (fun v h' => v = none ∧ Q h')) (zc_X D cA P zc_no) args s C S P) (F0 m 13 ls [])) :
    ∀ (h : ZH) (bc bs : Nat) (q1 : Option Nat) (q2 : Option Nat) (v3 : Int32) (q4 : Option Nat) (v5 : Int32), fc_X5_ordersByAge_117 G o Q K13 h bc bs q1 q2 v3 q4 v5 → ∀ (H : Heap) (locs : List Loc) (ls : Array Slot) (cells slots : Nat), cells + bc ≤ C ∧ slots + bs ≤ S → lv_has ls 8 [(0, .ref o), (1, va_rf q1), (2, va_rf q2), (3, .int v3), (4, va_rf q4), (5, .int v5)] → zc_H D cA P h s H locs → W p l e (zc_Ro 9 C S) s m args below meth c H locs cells slots (vx_MQ below (zc_Q D cA P (fun v h' => v = none ∧ Q h')) (zc_X D cA P zc_no) args s C S P) (F0 m 117 ls []) := by
  have hx := X.1
  have hb := X.2.1
  have hown := X.2.2.2.1
  have hts := X.2.2.2.2.1
  intro h bc bs q1 q2 v3 q4 v5 hF
  intro H locs ls cells slots hB hl hH
  unfold fc_X5_ordersByAge_117 at hF
  obtain ⟨x1, ex1⟩ : ∃ z : Int32, z = v5 + 1 := ⟨_, rfl⟩
  have hF := hF x1 ex1
  refine lv_iinc (v := x1) (lv' := [(5, .int x1), (0, .ref o), (1, va_rf q1), (2, va_rf q2), (3, .int v3), (4, va_rf q4)]) hx hb dX5_ordersByAge_117 hl (k := 5) rfl (by rw [ex1]; rfl) (by decide) (by cases q4 <;> rfl) (fun ls hl => ?_)
  refine lv_goto (tgt := 13) hx hb dX5_ordersByAge_120 (by decide) ?_
  exact hK13 h bc bs q1 q2 v3 q4 x1 hF _ _ _ _ _ hB (lv_sub hl [1, 2, 3, 4, 5, 0] rfl) hH
set_option maxHeartbeats 4000000 in
set_option maxRecDepth 100000 in
theorem wc_X5_ordersByAge_108 {p : Program} {l : Launch} {e : Env} {s : State} {m : MethodId} {args : Array Value} {below : List Frame} {meth : Method} {c : Code} {D : va_G} {cA : Nat → ClassId} {P : Nat → Prop} {G : Nat × Nat × Nat} {C S : Nat} {o : Nat} {Q : ZH → Prop} {K13 : ZH → Nat → Nat → Option Nat → Option Nat → Int32 → Option Nat → Int32 → Prop} (X : zc_Cx p l s m args meth c cX5_ordersByAge 8 none "ChurchyardBook$Book" D cA P G) (hN : meth.name = "ordersByAge") (hT : c.exceptionTable.toList = tableOf []) (hK13 : ∀ (h : ZH) (bc bs : Nat) (q1 : Option Nat) (q2 : Option Nat) (v3 : Int32) (q4 : Option Nat) (v5 : Int32), K13 h bc bs q1 q2 v3 q4 v5 → ∀ (H : Heap) (locs : List Loc) (ls : Array Slot) (cells slots : Nat), cells + bc ≤ C ∧ slots + bs ≤ S → lv_has ls 8 [(0, .ref o), (1, va_rf q1), (2, va_rf q2), (3, .int v3), (4, va_rf q4), (5, .int v5)] → zc_H D cA P h s H locs → W p l e (zc_Ro 9 C S) s m args below meth c H locs cells slots (vx_MQ below (zc_Q D cA P (fun v h' => v = none ∧ Q h')) (zc_X D cA P zc_no) args s C S P) (F0 m 13 ls [])) :
    ∀ (h : ZH) (bc bs : Nat) (q1 : Option Nat) (q2 : Option Nat) (v3 : Int32) (q4 : Option Nat) (v5 : Int32) (q6 : Option Nat) (v7 : Int32), fc_X5_ordersByAge_108 G o Q K13 h bc bs q1 q2 v3 q4 v5 q6 v7 → ∀ (H : Heap) (locs : List Loc) (ls : Array Slot) (cells slots : Nat), cells + bc ≤ C ∧ slots + bs ≤ S → lv_has ls 8 [(0, .ref o), (1, va_rf q1), (2, va_rf q2), (3, .int v3), (4, va_rf q4), (5, .int v5), (6, va_rf q6), (7, .int v7)] → zc_H D cA P h s H locs → W p l e (zc_Ro 9 C S) s m args below meth c H locs cells slots (vx_MQ below (zc_Q D cA P (fun v h' => v = none ∧ Q h')) (zc_X D cA P zc_no) args s C S P) (F0 m 108 ls []) := by
  have hx := X.1
  have hb := X.2.1
  have hown := X.2.2.2.1
  have hts := X.2.2.2.2.1
  intro h bc bs q1 q2 v3 q4 v5 q6 v7 hF
  intro H locs ls cells slots hB hl hH
  unfold fc_X5_ordersByAge_108 at hF
  refine zq_aload hx hb dX5_ordersByAge_108 (lv_at hl 4 rfl) ?_
  refine lv_iload hx hb dX5_ordersByAge_110 (lv_at hl 7 rfl) ?_
  refine zq_aload hx hb dX5_ordersByAge_112 (lv_at hl 6 rfl) ?_
  obtain ⟨b1, eb1, hF⟩ := hF
  refine zq_st (st2 := [va_rf q6, .int v7, .ref b1]) (by rw [eb1]; first | done | rfl) ?_
  obtain ⟨hc, hF⟩ := hF
  obtain ⟨c2, s3, hc1, hs1, hF⟩ := hF
  refine zc_call (c1 := c2) (s1 := s3) (rest := []) hH hB hc1 hs1 (fun hf => zc_rV X hH hc (by decide) rfl (As := [.int v7, va_rf q6]) (wc_J2_add_3 X.2.2.2.2.2.2.2.1 hF) (lw_V q1069 q1070 q1071 q94 q1072) ⟨rfl, by decide, by decide, rfl⟩ ⟨Nat.le_of_ble_eq_true rfl, Nat.le_of_ble_eq_true rfl, Nat.le_of_ble_eq_true rfl⟩ rfl hl.1 (st0 := [va_rf q6, .int v7, .ref b1]) rfl (Nat.le_of_ble_eq_true rfl) dX5_ordersByAge_114 hf) (fun E9 ce9 q9 h9 H locs hx9 => False.elim hx9) (fun v9 h4 H locs hv9 hH hB => ?_)
  obtain ⟨rfl, hF⟩ := hv9
  exact wc_X5_ordersByAge_117 X hN hT hK13 h4 (bc - c2) (bs - s3) q1 q2 v3 q4 v5 hF _ _ _ _ _ hB (lv_sub hl [0, 1, 2, 3, 4, 5] rfl) hH
set_option maxHeartbeats 4000000 in
set_option maxRecDepth 100000 in
theorem wc_X5_ordersByAge_74 {p : Program} {l : Launch} {e : Env} {s : State} {m : MethodId} {args : Array Value} {below : List Frame} {meth : Method} {c : Code} {D : va_G} {cA : Nat → ClassId} {P : Nat → Prop} {G : Nat × Nat × Nat} {C S : Nat} {o : Nat} {Q : ZH → Prop} {K13 : ZH → Nat → Nat → Option Nat → Option Nat → Int32 → Option Nat → Int32 → Prop} (X : zc_Cx p l s m args meth c cX5_ordersByAge 8 none "ChurchyardBook$Book" D cA P G) (hN : meth.name = "ordersByAge") (hT : c.exceptionTable.toList = tableOf []) (hK13 : ∀ (h : ZH) (bc bs : Nat) (q1 : Option Nat) (q2 : Option Nat) (v3 : Int32) (q4 : Option Nat) (v5 : Int32), K13 h bc bs q1 q2 v3 q4 v5 → ∀ (H : Heap) (locs : List Loc) (ls : Array Slot) (cells slots : Nat), cells + bc ≤ C ∧ slots + bs ≤ S → lv_has ls 8 [(0, .ref o), (1, va_rf q1), (2, va_rf q2), (3, .int v3), (4, va_rf q4), (5, .int v5)] → zc_H D cA P h s H locs → W p l e (zc_Ro 9 C S) s m args below meth c H locs cells slots (vx_MQ below (zc_Q D cA P (fun v h' => v = none ∧ Q h')) (zc_X D cA P zc_no) args s C S P) (F0 m 13 ls [])) :
    ∀ (n : Nat) (h : ZH) (bc bs : Nat) (q1 : Option Nat) (q2 : Option Nat) (v3 : Int32) (q4 : Option Nat) (v5 : Int32) (q6 : Option Nat) (v7 : Int32), fc_X5_ordersByAge_74 G o Q K13 n h bc bs q1 q2 v3 q4 v5 q6 v7 → ∀ (H : Heap) (locs : List Loc) (ls : Array Slot) (cells slots : Nat), cells + bc ≤ C ∧ slots + bs ≤ S → lv_has ls 8 [(0, .ref o), (1, va_rf q1), (2, va_rf q2), (3, .int v3), (4, va_rf q4), (5, .int v5), (6, va_rf q6), (7, .int v7)] → zc_H D cA P h s H locs → W p l e (zc_Ro 9 C S) s m args below meth c H locs cells slots (vx_MQ below (zc_Q D cA P (fun v h' => v = none ∧ Q h')) (zc_X D cA P zc_no) args s C S P) (F0 m 74 ls []) := by
  have hx := X.1
  have hb := X.2.1
  have hown := X.2.2.2.1
  have hts := X.2.2.2.2.1
  intro n
  induction n with
  | zero =>
    intro h bc bs q1 q2 v3 q4 v5 q6 v7 hF
    exact False.elim hF
  | succ n ih =>
    intro h bc bs q1 q2 v3 q4 v5 q6 v7 hF
    intro H locs ls cells slots hB hl hH
    unfold fc_X5_ordersByAge_74 at hF
    refine lv_iload hx hb dX5_ordersByAge_74 (lv_at hl 7 rfl) ?_
    refine lv_if_le (tgt := 108) hx hb dX5_ordersByAge_76 (by decide) (fun cd => ?_) (fun cd => ?_)
    · have hF := hF.1 cd
      exact wc_X5_ordersByAge_108 X hN hT hK13 h bc bs q1 q2 v3 q4 v5 q6 v7 hF _ _ _ _ _ hB (lv_sub hl [0, 1, 2, 3, 4, 5, 6, 7] rfl) hH
    · have hF := hF.2 cd
      refine zq_aload hx hb dX5_ordersByAge_79 (lv_at hl 4 rfl) ?_
      refine lv_iload hx hb dX5_ordersByAge_81 (lv_at hl 7 rfl) ?_
      refine lv_iconst (v := 1) hx hb dX5_ordersByAge_83 (by decide) ?_
      refine lv_isub hx hb dX5_ordersByAge_84 ?_
      obtain ⟨b1, eb1, hF⟩ := hF
      refine zq_st (st2 := [.int (v7 - 1), .ref b1]) (by rw [eb1]; first | done | rfl) ?_
      obtain ⟨hc, hF⟩ := hF
      refine zc_call (c1 := 0) (s1 := 0) (rest := []) hH hB (Nat.zero_le _) (Nat.zero_le _) (fun hf => zc_rV X hH hc (by decide) rfl (As := [.int (v7 - 1)]) (wc_J2_get X.2.2.2.2.2.2.2.1 hF) (lw_V q475 q476 q477 q94 q478) ⟨rfl, by decide, by decide, rfl⟩ ⟨Nat.le_of_ble_eq_true rfl, Nat.le_of_ble_eq_true rfl, Nat.le_of_ble_eq_true rfl⟩ rfl hl.1 (st0 := [.int (v7 - 1), .ref b1]) rfl (Nat.le_of_ble_eq_true rfl) dX5_ordersByAge_85 hf) (fun E9 ce9 q9 h9 H locs hx9 => False.elim hx9) (fun v9 h9 H locs hv9 hH hB => ?_)
      obtain ⟨r2, rfl, hF, rfl⟩ := hv9
      obtain ⟨hR, hF⟩ := hF
      refine zc_castY X hH (r := r2) [14] "ChurchyardBook$Person" hR (by decide) (by decide +kernel) q853 dX5_ordersByAge_88 ?_
      obtain ⟨b3, eb3, hF⟩ := hF
      refine zq_st (st2 := [.ref b3]) (by rw [eb3]; first | done | rfl) ?_
      obtain ⟨hc, hF⟩ := hF
      refine zc_getf X hH hc 1 701 ("ChurchyardBook$Person", "born", "I", true) (by decide +kernel) (v := .int (zi h 701 b3)) rfl q866 (Or.inl rfl) dX5_ordersByAge_91 ?_
      refine zq_aload hx hb dX5_ordersByAge_94 (lv_at hl 6 rfl) ?_
      obtain ⟨b4, eb4, hF⟩ := hF
      refine zq_st (st2 := [.ref b4, .int (zi h 701 b3)]) (by rw [eb4]; first | done | rfl) ?_
      obtain ⟨hc, hF⟩ := hF
      refine zc_getf X hH hc 1 701 ("ChurchyardBook$Person", "born", "I", true) (by decide +kernel) (v := .int (zi h 701 b4)) rfl q866 (Or.inl rfl) dX5_ordersByAge_96 ?_
      refine lv_icmp_le (tgt := 108) hx hb dX5_ordersByAge_99 (by decide) (fun cd => ?_) (fun cd => ?_)
      · have hF := hF.1 cd
        exact wc_X5_ordersByAge_108 X hN hT hK13 h bc bs q1 q2 v3 q4 v5 q6 v7 hF _ _ _ _ _ hB (lv_sub hl [0, 1, 2, 3, 4, 5, 6, 7] rfl) hH
      · have hF := hF.2 cd
        obtain ⟨x5, ex5⟩ : ∃ z : Int32, z = v7 + (-1) := ⟨_, rfl⟩
        have hF := hF x5 ex5
        refine lv_iinc (v := x5) (lv' := [(7, .int x5), (0, .ref o), (1, va_rf q1), (2, va_rf q2), (3, .int v3), (4, va_rf q4), (5, .int v5), (6, va_rf q6)]) hx hb dX5_ordersByAge_102 hl (k := 7) rfl (by rw [ex5]; rfl) (by decide) (by cases q6 <;> rfl) (fun ls hl => ?_)
        refine lv_goto (tgt := 74) hx hb dX5_ordersByAge_105 (by decide) ?_
        exact ih h bc bs q1 q2 v3 q4 v5 q6 x5 hF _ _ _ _ _ hB (lv_sub hl [1, 2, 3, 4, 5, 6, 7, 0] rfl) hH
set_option maxHeartbeats 4000000 in
set_option maxRecDepth 100000 in
theorem wc_X5_ordersByAge_67 {p : Program} {l : Launch} {e : Env} {s : State} {m : MethodId} {args : Array Value} {below : List Frame} {meth : Method} {c : Code} {D : va_G} {cA : Nat → ClassId} {P : Nat → Prop} {G : Nat × Nat × Nat} {C S : Nat} {o : Nat} {Q : ZH → Prop} {K13 : ZH → Nat → Nat → Option Nat → Option Nat → Int32 → Option Nat → Int32 → Prop} (X : zc_Cx p l s m args meth c cX5_ordersByAge 8 none "ChurchyardBook$Book" D cA P G) (hN : meth.name = "ordersByAge") (hT : c.exceptionTable.toList = tableOf []) (hK13 : ∀ (h : ZH) (bc bs : Nat) (q1 : Option Nat) (q2 : Option Nat) (v3 : Int32) (q4 : Option Nat) (v5 : Int32), K13 h bc bs q1 q2 v3 q4 v5 → ∀ (H : Heap) (locs : List Loc) (ls : Array Slot) (cells slots : Nat), cells + bc ≤ C ∧ slots + bs ≤ S → lv_has ls 8 [(0, .ref o), (1, va_rf q1), (2, va_rf q2), (3, .int v3), (4, va_rf q4), (5, .int v5)] → zc_H D cA P h s H locs → W p l e (zc_Ro 9 C S) s m args below meth c H locs cells slots (vx_MQ below (zc_Q D cA P (fun v h' => v = none ∧ Q h')) (zc_X D cA P zc_no) args s C S P) (F0 m 13 ls [])) :
    ∀ (h : ZH) (bc bs : Nat) (q1 : Option Nat) (q2 : Option Nat) (v3 : Int32) (q4 : Option Nat) (v5 : Int32) (q6 : Option Nat), fc_X5_ordersByAge_67 G o Q K13 h bc bs q1 q2 v3 q4 v5 q6 → ∀ (H : Heap) (locs : List Loc) (ls : Array Slot) (cells slots : Nat), cells + bc ≤ C ∧ slots + bs ≤ S → lv_has ls 8 [(0, .ref o), (1, va_rf q1), (2, va_rf q2), (3, .int v3), (4, va_rf q4), (5, .int v5), (6, va_rf q6)] → zc_H D cA P h s H locs → W p l e (zc_Ro 9 C S) s m args below meth c H locs cells slots (vx_MQ below (zc_Q D cA P (fun v h' => v = none ∧ Q h')) (zc_X D cA P zc_no) args s C S P) (F0 m 67 ls []) := by
  have hx := X.1
  have hb := X.2.1
  have hown := X.2.2.2.1
  have hts := X.2.2.2.2.1
  intro h bc bs q1 q2 v3 q4 v5 q6 hF
  intro H locs ls cells slots hB hl hH
  unfold fc_X5_ordersByAge_67 at hF
  refine zq_aload hx hb dX5_ordersByAge_67 (lv_at hl 4 rfl) ?_
  obtain ⟨b1, eb1, hF⟩ := hF
  refine zq_st (st2 := [.ref b1]) (by rw [eb1]; first | done | rfl) ?_
  obtain ⟨hc, hF⟩ := hF
  refine zc_call (c1 := 0) (s1 := 0) (rest := []) hH hB (Nat.zero_le _) (Nat.zero_le _) (fun hf => zc_rV X hH hc (by decide) rfl (As := []) (wc_J2_size X.2.2.2.2.2.2.2.1 hF) (lw_V q349 q350 q351 q94 q352) ⟨rfl, by decide, by decide, rfl⟩ ⟨Nat.le_of_ble_eq_true rfl, Nat.le_of_ble_eq_true rfl, Nat.le_of_ble_eq_true rfl⟩ rfl hl.1 (st0 := [.ref b1]) rfl (Nat.le_of_ble_eq_true rfl) dX5_ordersByAge_69 hf) (fun E9 ce9 q9 h9 H locs hx9 => False.elim hx9) (fun v9 h9 H locs hv9 hH hB => ?_)
  obtain ⟨z2, rfl, hF, rfl⟩ := hv9
  refine lv_istore (lv' := [(7, .int z2), (0, .ref o), (1, va_rf q1), (2, va_rf q2), (3, .int v3), (4, va_rf q4), (5, .int v5), (6, va_rf q6)]) hx hb dX5_ordersByAge_72 hl (by decide) (by cases q6 <;> rfl) (fun ls hl => ?_)
  obtain ⟨n9, hF⟩ := hF
  exact wc_X5_ordersByAge_74 X hN hT hK13 n9 h bc bs q1 q2 v3 q4 v5 q6 z2 hF _ _ _ _ _ hB (lv_sub hl [1, 2, 3, 4, 5, 6, 7, 0] rfl) hH
set_option maxHeartbeats 4000000 in
set_option maxRecDepth 100000 in
theorem wc_X5_ordersByAge_13 {p : Program} {l : Launch} {e : Env} {s : State} {m : MethodId} {args : Array Value} {below : List Frame} {meth : Method} {c : Code} {D : va_G} {cA : Nat → ClassId} {P : Nat → Prop} {G : Nat × Nat × Nat} {C S : Nat} {o : Nat} {Q : ZH → Prop} (X : zc_Cx p l s m args meth c cX5_ordersByAge 8 none "ChurchyardBook$Book" D cA P G) (hN : meth.name = "ordersByAge") (hT : c.exceptionTable.toList = tableOf []) :
    ∀ (n : Nat) (h : ZH) (bc bs : Nat) (q1 : Option Nat) (q2 : Option Nat) (v3 : Int32) (q4 : Option Nat) (v5 : Int32), fc_X5_ordersByAge_13 G o Q n h bc bs q1 q2 v3 q4 v5 → ∀ (H : Heap) (locs : List Loc) (ls : Array Slot) (cells slots : Nat), cells + bc ≤ C ∧ slots + bs ≤ S → lv_has ls 8 [(0, .ref o), (1, va_rf q1), (2, va_rf q2), (3, .int v3), (4, va_rf q4), (5, .int v5)] → zc_H D cA P h s H locs → W p l e (zc_Ro 9 C S) s m args below meth c H locs cells slots (vx_MQ below (zc_Q D cA P (fun v h' => v = none ∧ Q h')) (zc_X D cA P zc_no) args s C S P) (F0 m 13 ls []) := by
  have hx := X.1
  have hb := X.2.1
  have hown := X.2.2.2.1
  have hts := X.2.2.2.2.1
  intro n
  induction n with
  | zero =>
    intro h bc bs q1 q2 v3 q4 v5 hF
    exact False.elim hF
  | succ n ih =>
    intro h bc bs q1 q2 v3 q4 v5 hF
    intro H locs ls cells slots hB hl hH
    unfold fc_X5_ordersByAge_13 at hF
    refine lv_iload hx hb dX5_ordersByAge_13 (lv_at hl 5 rfl) ?_
    refine lv_aload_n hx hb dX5_ordersByAge_15 rfl (lv_at hl 0 rfl) ?_
    obtain ⟨hc, hF⟩ := hF
    refine zc_getf X hH hc 2 202 ("ChurchyardBook$Book", "persons", "Ljava/util/ArrayList;", true) (by decide +kernel) (v := va_rf (zr h 202 o)) rfl q192 (Or.inl rfl) dX5_ordersByAge_16 ?_
    obtain ⟨b1, eb1, hF⟩ := hF
    refine zq_st (st2 := [.ref b1, .int v5]) (by rw [eb1]; first | done | rfl) ?_
    obtain ⟨hc, hF⟩ := hF
    refine zc_call (c1 := 0) (s1 := 0) (rest := [.int v5]) hH hB (Nat.zero_le _) (Nat.zero_le _) (fun hf => zc_rV X hH hc (by decide) rfl (As := []) (wc_J2_size X.2.2.2.2.2.2.2.1 hF) (lw_V q349 q350 q351 q94 q352) ⟨rfl, by decide, by decide, rfl⟩ ⟨Nat.le_of_ble_eq_true rfl, Nat.le_of_ble_eq_true rfl, Nat.le_of_ble_eq_true rfl⟩ rfl hl.1 (st0 := [.ref b1, .int v5]) rfl (Nat.le_of_ble_eq_true rfl) dX5_ordersByAge_19 hf) (fun E9 ce9 q9 h9 H locs hx9 => False.elim hx9) (fun v9 h9 H locs hv9 hH hB => ?_)
    obtain ⟨z2, rfl, hF, rfl⟩ := hv9
    refine lv_icmp_ge (tgt := 123) hx hb dX5_ordersByAge_22 (by decide) (fun cd => ?_) (fun cd => ?_)
    · have hF := hF.1 cd
      refine lv_iconst (v := 0) hx hb dX5_ordersByAge_123 (by decide) ?_
      refine lv_istore (lv' := [(5, .int 0), (0, .ref o), (1, va_rf q1), (2, va_rf q2), (3, .int v3), (4, va_rf q4)]) hx hb dX5_ordersByAge_124 hl (by decide) (by cases q4 <;> rfl) (fun ls hl => ?_)
      obtain ⟨n9, hF⟩ := hF
      exact wc_X5_ordersByAge_126 X hN hT n9 h bc bs q1 q4 0 hF _ _ _ _ _ hB (lv_sub hl [1, 2, 5, 0] rfl) hH
    · have hF := hF.2 cd
      refine lv_aload_n hx hb dX5_ordersByAge_25 rfl (lv_at hl 0 rfl) ?_
      obtain ⟨hc, hF⟩ := hF
      refine zc_getf X hH hc 2 202 ("ChurchyardBook$Book", "persons", "Ljava/util/ArrayList;", true) (by decide +kernel) (v := va_rf (zr h 202 o)) rfl q192 (Or.inl rfl) dX5_ordersByAge_26 ?_
      refine lv_iload hx hb dX5_ordersByAge_29 (lv_at hl 5 rfl) ?_
      refine zq_st (st2 := [.int v5, .ref b1]) (by rw [eb1]; first | done | rfl) ?_
      obtain ⟨hc, hF⟩ := hF
      refine zc_call (c1 := 0) (s1 := 0) (rest := []) hH hB (Nat.zero_le _) (Nat.zero_le _) (fun hf => zc_rV X hH hc (by decide) rfl (As := [.int v5]) (wc_J2_get X.2.2.2.2.2.2.2.1 hF) (lw_V q475 q476 q477 q94 q478) ⟨rfl, by decide, by decide, rfl⟩ ⟨Nat.le_of_ble_eq_true rfl, Nat.le_of_ble_eq_true rfl, Nat.le_of_ble_eq_true rfl⟩ rfl hl.1 (st0 := [.int v5, .ref b1]) rfl (Nat.le_of_ble_eq_true rfl) dX5_ordersByAge_31 hf) (fun E9 ce9 q9 h9 H locs hx9 => False.elim hx9) (fun v9 h9 H locs hv9 hH hB => ?_)
      obtain ⟨r3, rfl, hF, rfl⟩ := hv9
      obtain ⟨hR, hF⟩ := hF
      refine zc_castY X hH (r := r3) [14] "ChurchyardBook$Person" hR (by decide) (by decide +kernel) q853 dX5_ordersByAge_34 ?_
      refine zq_astore (r := r3) (lv' := [(6, va_rf r3), (0, .ref o), (1, va_rf q1), (2, va_rf q2), (3, .int v3), (4, va_rf q4), (5, .int v5)]) hx hb rfl dX5_ordersByAge_37 hl (by decide) rfl (fun ls hl => ?_)
      refine lv_iload_n hx hb dX5_ordersByAge_39 rfl (lv_at hl 4 rfl) ?_
      refine lv_if_eq (tgt := 55) hx hb dX5_ordersByAge_40 (by decide) (fun cd => ?_) (fun cd => ?_)
      · have hF := hF.1 cd
        refine zq_aload_n hx hb dX5_ordersByAge_55 rfl (lv_at hl 3 rfl) ?_
        refine zq_aload hx hb dX5_ordersByAge_56 (lv_at hl 0 rfl) ?_
        obtain ⟨b4, eb4, hF⟩ := hF
        refine zq_st (st2 := [va_rf r3, .ref b4]) (by rw [eb4]; first | done | rfl) ?_
        obtain ⟨hc, hF⟩ := hF
        refine zc_call (c1 := 0) (s1 := 0) (rest := []) hH hB (Nat.zero_le _) (Nat.zero_le _) (fun hf => zc_rV X hH hc (by decide) rfl (As := [va_rf r3]) (wc_X16_isSiblingOf X.2.2.2.2.2.2.2.1 hF) (lw_V q1064 q1065 q1066 q121 q1067) ⟨rfl, by decide, by decide, rfl⟩ ⟨Nat.le_of_ble_eq_true rfl, Nat.le_of_ble_eq_true rfl, Nat.le_of_ble_eq_true rfl⟩ rfl hl.1 (st0 := [va_rf r3, .ref b4]) rfl (Nat.le_of_ble_eq_true rfl) dX5_ordersByAge_58 hf) (fun E9 ce9 q9 h9 H locs hx9 => False.elim hx9) (fun v9 h9 H locs hv9 hH hB => ?_)
        obtain ⟨z5, rfl, hF, rfl⟩ := hv9
        refine lv_if_ne (tgt := 67) hx hb dX5_ordersByAge_61 (by decide) (fun cd => ?_) (fun cd => ?_)
        · have hF := hF.1 cd
          exact wc_X5_ordersByAge_67 X hN hT ih h bc bs q1 q2 v3 q4 v5 r3 hF _ _ _ _ _ hB (lv_sub hl [1, 2, 3, 4, 5, 6, 0] rfl) hH
        · have hF := hF.2 cd
          refine lv_goto (tgt := 117) hx hb dX5_ordersByAge_64 (by decide) ?_
          exact wc_X5_ordersByAge_117 X hN hT ih h bc bs q1 q2 v3 q4 v5 hF _ _ _ _ _ hB (lv_sub hl [1, 2, 3, 4, 5, 6] rfl) hH
      · have hF := hF.2 cd
        refine zq_aload_n hx hb dX5_ordersByAge_43 rfl (lv_at hl 3 rfl) ?_
        refine zq_aload hx hb dX5_ordersByAge_44 (lv_at hl 0 rfl) ?_
        obtain ⟨b6, eb6, hF⟩ := hF
        refine zq_st (st2 := [va_rf r3, .ref b6]) (by rw [eb6]; first | done | rfl) ?_
        obtain ⟨hc, hF⟩ := hF
        refine zc_call (c1 := 0) (s1 := 0) (rest := []) hH hB (Nat.zero_le _) (Nat.zero_le _) (fun hf => zc_rV X hH hc (by decide) rfl (As := [va_rf r3]) (wc_X16_isParentOf X.2.2.2.2.2.2.2.1 hF) (lw_V q941 q942 q943 q121 q944) ⟨rfl, by decide, by decide, rfl⟩ ⟨Nat.le_of_ble_eq_true rfl, Nat.le_of_ble_eq_true rfl, Nat.le_of_ble_eq_true rfl⟩ rfl hl.1 (st0 := [va_rf r3, .ref b6]) rfl (Nat.le_of_ble_eq_true rfl) dX5_ordersByAge_46 hf) (fun E9 ce9 q9 h9 H locs hx9 => False.elim hx9) (fun v9 h9 H locs hv9 hH hB => ?_)
        obtain ⟨z7, rfl, hF, rfl⟩ := hv9
        refine lv_if_eq (tgt := 117) hx hb dX5_ordersByAge_49 (by decide) (fun cd => ?_) (fun cd => ?_)
        · have hF := hF.1 cd
          exact wc_X5_ordersByAge_117 X hN hT ih h bc bs q1 q2 v3 q4 v5 hF _ _ _ _ _ hB (lv_sub hl [1, 2, 3, 4, 5, 6] rfl) hH
        · have hF := hF.2 cd
          refine lv_goto (tgt := 67) hx hb dX5_ordersByAge_52 (by decide) ?_
          exact wc_X5_ordersByAge_67 X hN hT ih h bc bs q1 q2 v3 q4 v5 r3 hF _ _ _ _ _ hB (lv_sub hl [1, 2, 3, 4, 5, 6, 0] rfl) hH
set_option maxHeartbeats 4000000 in
set_option maxRecDepth 100000 in
theorem wc_X5_ordersByAge {l : Launch} {D : va_G} {cA : Nat → ClassId} {P : Nat → Prop} {G : Nat × Nat × Nat} {o : Nat} {Q : ZH → Prop} {h : ZH} {C S : Nat} {q1 : Option Nat} {q2 : Option Nat} {v3 : Int32} (hl9 : l.stackTraces = false) (hF : fc_X5_ordersByAge G o Q h C S q1 q2 v3) :
    zc_M l yX5_ordersByAge (ws_ yX5_ordersByAge cX5_ordersByAge 8 none) 9 D cA P G [.ref o, va_rf q1, va_rf q2, .int v3] h C S (fun v h' => v = none ∧ Q h') zc_no := by
  refine zc_ofF hl9 rfl (by decide +kernel) (zc_slle (by simp [zc_k1, zc_kI, zc_kR]) (Nat.le_of_ble_eq_true rfl)) ?_
  intro p e s m args below meth c H locs ls X hN hT hH hl
  have hx := X.1
  have hb := X.2.1
  have hown := X.2.2.2.1
  have hts := X.2.2.2.2.1
  have hl : lv_has ls 8 [(0, .ref o), (1, va_rf q1), (2, va_rf q2), (3, .int v3)] := by
    have h9 := hl
    rw [zc_ags _ (by simp [zc_k1, zc_kI, zc_kR]) 0] at h9
    exact h9
  have hB : 0 + C ≤ C ∧ 0 + S ≤ S := ⟨by omega, by omega⟩
  unfold fc_X5_ordersByAge at hF
  obtain ⟨hc1, hF⟩ := hF
  obtain ⟨hs1, hF⟩ := hF
  refine zc_new X hH hB (ci := 4) rfl (n := 3) q155 q156 q94 (by decide) hc1 hs1 dX5_ordersByAge_0 (fun a1 h2 H hza1 eh2 hH hB => ?_)
  have hF := hF a1 h2 hza1 eh2
  refine lv_dup hx hb dX5_ordersByAge_3 rfl ?_
  refine lv_iconst (v := 0) hx hb dX5_ordersByAge_4 (by decide) ?_
  obtain ⟨c3, s4, hc1, hs1, hF⟩ := hF
  refine zc_call (c1 := c3) (s1 := s4) (rest := [.ref a1]) hH hB hc1 hs1 (fun hf => zc_rI X hH (As := [.int 0]) (wc_J2_init X.2.2.2.2.2.2.2.1 hF) (lw_meth q159) q157 q94 q158 rfl ⟨by decide, by decide, rfl⟩ ⟨Nat.le_of_ble_eq_true rfl, Nat.le_of_ble_eq_true rfl, Nat.le_of_ble_eq_true rfl⟩ rfl hl.1 (st0 := [.int 0, .ref a1, .ref a1]) rfl (Nat.le_of_ble_eq_true rfl) dX5_ordersByAge_5 hf) (fun E9 ce9 q9 h9 H locs hx9 => False.elim hx9) (fun v9 h5 H locs hv9 hH hB => ?_)
  obtain ⟨rfl, hF⟩ := hv9
  refine zq_astore (r := (some a1)) (lv' := [(4, .ref a1), (0, .ref o), (1, va_rf q1), (2, va_rf q2), (3, .int v3)]) hx hb rfl dX5_ordersByAge_8 hl (by decide) rfl (fun ls hl => ?_)
  refine lv_iconst (v := 0) hx hb dX5_ordersByAge_10 (by decide) ?_
  refine lv_istore (lv' := [(5, .int 0), (4, .ref a1), (0, .ref o), (1, va_rf q1), (2, va_rf q2), (3, .int v3)]) hx hb dX5_ordersByAge_11 hl (by decide) rfl (fun ls hl => ?_)
  obtain ⟨n9, hF⟩ := hF
  exact wc_X5_ordersByAge_13 X hN hT n9 h5 ((C - 1) - c3) ((S - 3) - s4) q1 q2 v3 (some a1) 0 hF _ _ _ _ _ hB (lv_sub hl [2, 3, 4, 5, 1, 0] rfl) hH
set_option maxHeartbeats 4000000 in
set_option maxRecDepth 100000 in
theorem wc_X9_passOn_109 {p : Program} {l : Launch} {e : Env} {s : State} {m : MethodId} {args : Array Value} {below : List Frame} {meth : Method} {c : Code} {D : va_G} {cA : Nat → ClassId} {P : Nat → Prop} {G : Nat × Nat × Nat} {C S : Nat} {o : Nat} {Q : ZH → Prop} (X : zc_Cx p l s m args meth c cX9_passOn 2 none "ChurchyardBook$Grave" D cA P G) (hN : meth.name = "passOn") (hT : c.exceptionTable.toList = tableOf []) :
    ∀ (h : ZH) (t1 : Int32), fc_X9_passOn_109 G o Q h t1 → ∀ (H : Heap) (locs : List Loc) (ls : Array Slot) (cells slots : Nat), cells + 0 ≤ C ∧ slots + 0 ≤ S → lv_has ls 2 [(0, .ref o)] → zc_H D cA P h s H locs → W p l e (zc_Ro 4 C S) s m args below meth c H locs cells slots (vx_MQ below (zc_Q D cA P (fun v h' => v = none ∧ Q h')) (zc_X D cA P zc_no) args s C S P) (F0 m 109 ls [.int t1, .ref o]) := by
  have hx := X.1
  have hb := X.2.1
  have hown := X.2.2.2.1
  have hts := X.2.2.2.2.1
  intro h t1 hF
  intro H locs ls cells slots hB hl hH
  unfold fc_X9_passOn_109 at hF
  obtain ⟨hc, hF⟩ := hF
  refine zc_puti X hH hc 10 610 ("ChurchyardBook$Grave", "date", "I", false) (by decide +kernel) rfl q683 (Or.inl rfl) (ty := .int) (by decide +kernel) rfl rfl (Or.inl rfl) dX9_passOn_109 (fun h1 H locs eh1 hH => ?_)
  have hF := hF h1 eh1
  exact zc_vret X hH hB rfl ⟨rfl, hF⟩ dX9_passOn_112
