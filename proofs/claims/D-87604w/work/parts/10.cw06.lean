/-! THE COMPONENT SIDE: the walks, printed by gen_comp.py -/
set_option maxRecDepth 100000
set_option maxHeartbeats 4000000 in
set_option maxRecDepth 100000 in
theorem wc_X5_laid_94 {p : Program} {l : Launch} {e : Env} {s : State} {m : MethodId} {args : Array Value} {below : List Frame} {meth : Method} {c : Code} {D : va_G} {cA : Nat → ClassId} {P : Nat → Prop} {G : Nat × Nat × Nat} {C S : Nat} {o : Nat} {Q : Int32 → ZH → Prop} (X : zc_Cx p l s m args meth c cX5_laid 7 (some .int) "ChurchyardBook$Book" D cA P G) (hN : meth.name = "laid") (hT : c.exceptionTable.toList = tableOf []) :
    ∀ (h : ZH) (bc bs : Nat) (q1 : Option Nat) (v5 : Int32) (t0 : Int32) (t1 : Int32), fc_X5_laid_94 G o Q h bc bs q1 v5 t0 t1 → ∀ (H : Heap) (locs : List Loc) (ls : Array Slot) (cells slots : Nat), cells + bc ≤ C ∧ slots + bs ≤ S → lv_has ls 7 [(0, .ref o), (1, va_rf q1), (5, .int v5)] → zc_H D cA P h s H locs → W p l e (zc_Ro 10 C S) s m args below meth c H locs cells slots (vx_MQ below (zc_Q D cA P (fun v h' => ∃ z : Int32, v = some (.int z) ∧ Q z h')) (zc_X D cA P zc_no) args s C S P) (F0 m 94 ls [.int t1, .int t0]) := by
  have hx := X.1
  have hb := X.2.1
  have hown := X.2.2.2.1
  have hts := X.2.2.2.2.1
  intro h bc bs q1 v5 t0 t1 hF
  intro H locs ls cells slots hB hl hH
  unfold fc_X5_laid_94 at hF
  refine lv_iadd hx hb dX5_laid_94 ?_
  refine lv_iload hx hb dX5_laid_95 (lv_at hl 2 rfl) ?_
  refine zq_aload_n hx hb dX5_laid_97 rfl (lv_at hl 1 rfl) ?_
  obtain ⟨b1, eb1, hF⟩ := hF
  refine zq_st (st2 := [.ref b1, .int v5, .int (t0 + t1)]) (by rw [eb1]; first | done | rfl) ?_
  refine zc_call (c1 := 0) (s1 := 0) (rest := [.int v5, .int (t0 + t1)]) hH hB (Nat.zero_le _) (Nat.zero_le _) (fun hf => rv_yearly_2 X hH q983 hF ⟨Nat.le_of_ble_eq_true rfl, Nat.le_of_ble_eq_true rfl, Nat.le_of_ble_eq_true rfl⟩ hl.1 (st0 := [.ref b1, .int v5, .int (t0 + t1)]) rfl (Nat.le_of_ble_eq_true rfl) dX5_laid_98 hf) (fun E9 ce9 q9 h9 H locs hx9 => False.elim hx9) (fun v9 h9 H locs hv9 hH hB => ?_)
  obtain ⟨z2, rfl, hF, rfl⟩ := hv9
  refine lv_imul hx hb dX5_laid_101 ?_
  refine lv_iadd hx hb dX5_laid_102 ?_
  exact zc_iret X hH hB rfl rfl ⟨_, rfl, hF⟩ dX5_laid_103
set_option maxHeartbeats 4000000 in
set_option maxRecDepth 100000 in
theorem wc_X5_laid_82 {p : Program} {l : Launch} {e : Env} {s : State} {m : MethodId} {args : Array Value} {below : List Frame} {meth : Method} {c : Code} {D : va_G} {cA : Nat → ClassId} {P : Nat → Prop} {G : Nat × Nat × Nat} {C S : Nat} {o : Nat} {Q : Int32 → ZH → Prop} (X : zc_Cx p l s m args meth c cX5_laid 7 (some .int) "ChurchyardBook$Book" D cA P G) (hN : meth.name = "laid") (hT : c.exceptionTable.toList = tableOf []) :
    ∀ (h : ZH) (bc bs : Nat) (q1 : Option Nat) (v5 : Int32) (v6 : Int32) (t0 : Int32), fc_X5_laid_82 G o Q h bc bs q1 v5 v6 t0 → ∀ (H : Heap) (locs : List Loc) (ls : Array Slot) (cells slots : Nat), cells + bc ≤ C ∧ slots + bs ≤ S → lv_has ls 7 [(0, .ref o), (1, va_rf q1), (5, .int v5), (6, .int v6)] → zc_H D cA P h s H locs → W p l e (zc_Ro 10 C S) s m args below meth c H locs cells slots (vx_MQ below (zc_Q D cA P (fun v h' => ∃ z : Int32, v = some (.int z) ∧ Q z h')) (zc_X D cA P zc_no) args s C S P) (F0 m 82 ls [.int t0]) := by
  have hx := X.1
  have hb := X.2.1
  have hown := X.2.2.2.1
  have hts := X.2.2.2.2.1
  intro h bc bs q1 v5 v6 t0 hF
  intro H locs ls cells slots hB hl hH
  unfold fc_X5_laid_82 at hF
  refine lv_iload hx hb dX5_laid_82 (lv_at hl 3 rfl) ?_
  refine lv_iconst (v := 1) hx hb dX5_laid_84 (by decide) ?_
  refine lv_icmp_ne (tgt := 93) hx hb dX5_laid_85 (by decide) (fun cd => ?_) (fun cd => ?_)
  · have hF := hF.1 cd
    refine lv_iconst (v := 0) hx hb dX5_laid_93 (by decide) ?_
    exact wc_X5_laid_94 X hN hT h bc bs q1 v5 t0 0 hF _ _ _ _ _ hB (lv_sub hl [0, 1, 2] rfl) hH
  · have hF := hF.2 cd
    refine lv_bipush (v := 20) hx hb dX5_laid_88 (by decide) ?_
    refine lv_goto (tgt := 94) hx hb dX5_laid_90 (by decide) ?_
    exact wc_X5_laid_94 X hN hT h bc bs q1 v5 t0 20 hF _ _ _ _ _ hB (lv_sub hl [0, 1, 2] rfl) hH
set_option maxHeartbeats 4000000 in
set_option maxRecDepth 100000 in
theorem wc_X5_laid_19 {p : Program} {l : Launch} {e : Env} {s : State} {m : MethodId} {args : Array Value} {below : List Frame} {meth : Method} {c : Code} {D : va_G} {cA : Nat → ClassId} {P : Nat → Prop} {G : Nat × Nat × Nat} {C S : Nat} {o : Nat} {Q : Int32 → ZH → Prop} (X : zc_Cx p l s m args meth c cX5_laid 7 (some .int) "ChurchyardBook$Book" D cA P G) (hN : meth.name = "laid") (hT : c.exceptionTable.toList = tableOf []) :
    ∀ (h : ZH) (bc bs : Nat) (q1 : Option Nat) (v2 : Int32) (q3 : Option Nat) (v4 : Int32) (t0 : Int32), fc_X5_laid_19 G o Q h bc bs q1 v2 q3 v4 t0 → ∀ (H : Heap) (locs : List Loc) (ls : Array Slot) (cells slots : Nat), cells + bc ≤ C ∧ slots + bs ≤ S → lv_has ls 7 [(0, .ref o), (1, va_rf q1), (2, .int v2), (3, va_rf q3), (4, .int v4)] → zc_H D cA P h s H locs → W p l e (zc_Ro 10 C S) s m args below meth c H locs cells slots (vx_MQ below (zc_Q D cA P (fun v h' => ∃ z : Int32, v = some (.int z) ∧ Q z h')) (zc_X D cA P zc_no) args s C S P) (F0 m 19 ls [.int t0]) := by
  have hx := X.1
  have hb := X.2.1
  have hown := X.2.2.2.1
  have hts := X.2.2.2.2.1
  intro h bc bs q1 v2 q3 v4 t0 hF
  intro H locs ls cells slots hB hl hH
  unfold fc_X5_laid_19 at hF
  refine lv_istore (lv' := [(5, .int t0), (0, .ref o), (1, va_rf q1), (2, .int v2), (3, va_rf q3), (4, .int v4)]) hx hb dX5_laid_19 hl (by decide) rfl (fun ls hl => ?_)
  refine zq_aload_n hx hb dX5_laid_21 rfl (lv_at hl 2 rfl) ?_
  refine lv_iload_n hx hb dX5_laid_22 rfl (lv_at hl 3 rfl) ?_
  refine lv_aload_n hx hb dX5_laid_23 rfl (lv_at hl 1 rfl) ?_
  obtain ⟨hc, hF⟩ := hF
  refine zc_getf X hH hc 3 203 ("ChurchyardBook$Book", "today", "I", false) (by decide +kernel) (v := .int (zi h 203 o)) rfl q194 (Or.inl rfl) dX5_laid_24 ?_
  obtain ⟨b1, eb1, hF⟩ := hF
  refine zq_st (st2 := [.int (zi h 203 o), .int v2, .ref b1]) (by rw [eb1]; first | done | rfl) ?_
  refine zc_call (c1 := 0) (s1 := 0) (rest := []) hH hB (Nat.zero_le _) (Nat.zero_le _) (fun hf => rv_room_15 X hH q1194 hF ⟨Nat.le_of_ble_eq_true rfl, Nat.le_of_ble_eq_true rfl, Nat.le_of_ble_eq_true rfl⟩ hl.1 (st0 := [.int (zi h 203 o), .int v2, .ref b1]) rfl (Nat.le_of_ble_eq_true rfl) dX5_laid_27 hf) (fun E9 ce9 q9 h9 H locs hx9 => False.elim hx9) (fun v9 h9 H locs hv9 hH hB => ?_)
  obtain ⟨z2, rfl, hF, rfl⟩ := hv9
  refine lv_istore (lv' := [(6, .int z2), (5, .int t0), (0, .ref o), (1, va_rf q1), (2, .int v2), (3, va_rf q3), (4, .int v4)]) hx hb dX5_laid_30 hl (by decide) rfl (fun ls hl => ?_)
  refine zq_aload_n hx hb dX5_laid_32 rfl (lv_at hl 3 rfl) ?_
  refine lv_dup hx hb dX5_laid_33 (by cases q1 <;> rfl) ?_
  refine zq_st (st2 := [.ref b1, va_rf q1]) (by rw [eb1]; first | done | rfl) ?_
  obtain ⟨hc, hF⟩ := hF
  refine zc_getf X hH hc 8 608 ("ChurchyardBook$Grave", "to", "I", false) (by decide +kernel) (v := .int (zi h 608 b1)) rfl q678 (Or.inl rfl) dX5_laid_34 ?_
  refine lv_sipush (v := 365) hx hb dX5_laid_37 (by decide) ?_
  refine lv_iload hx hb dX5_laid_40 (lv_at hl 1 rfl) ?_
  refine lv_imul hx hb dX5_laid_42 ?_
  refine lv_iadd hx hb dX5_laid_43 ?_
  refine zq_st (st2 := [.int ((zi h 608 b1) + (365 * t0)), .ref b1]) (by rw [eb1]; first | done | rfl) ?_
  obtain ⟨hc, hF⟩ := hF
  refine zc_puti X hH hc 8 608 ("ChurchyardBook$Grave", "to", "I", false) (by decide +kernel) rfl q678 (Or.inl rfl) (ty := .int) (by decide +kernel) rfl rfl (Or.inl rfl) dX5_laid_44 (fun h3 H locs eh3 hH => ?_)
  have hF := hF h3 eh3
  refine zq_aload_n hx hb dX5_laid_47 rfl (lv_at hl 3 rfl) ?_
  refine zq_aload_n hx hb dX5_laid_48 rfl (lv_at hl 5 rfl) ?_
  refine lv_iload_n hx hb dX5_laid_49 rfl (lv_at hl 4 rfl) ?_
  refine lv_iload hx hb dX5_laid_50 (lv_at hl 0 rfl) ?_
  refine lv_aload_n hx hb dX5_laid_52 rfl (lv_at hl 2 rfl) ?_
  obtain ⟨hc, hF⟩ := hF
  refine zc_getf X hH hc 3 203 ("ChurchyardBook$Book", "today", "I", false) (by decide +kernel) (v := .int (zi h3 203 o)) rfl q194 (Or.inl rfl) dX5_laid_53 ?_
  refine zq_st (st2 := [.int (zi h3 203 o), .int z2, .int v2, va_rf q3, .ref b1]) (by rw [eb1]; first | done | rfl) ?_
  obtain ⟨c4, s5, hc1, hs1, hF⟩ := hF
  refine zc_call (c1 := c4) (s1 := s5) (rest := []) hH hB hc1 hs1 (fun hf => rv_put_19 X hH q1297 hF ⟨Nat.le_of_ble_eq_true rfl, Nat.le_of_ble_eq_true rfl, Nat.le_of_ble_eq_true rfl⟩ hl.1 (st0 := [.int (zi h3 203 o), .int z2, .int v2, va_rf q3, .ref b1]) rfl (Nat.le_of_ble_eq_true rfl) dX5_laid_56 hf) (fun E9 ce9 q9 h9 H locs hx9 => False.elim hx9) (fun v9 h6 H locs hv9 hH hB => ?_)
  obtain ⟨rfl, hF⟩ := hv9
  refine lv_iload hx hb dX5_laid_59 (lv_at hl 6 rfl) ?_
  refine lv_if_ne (tgt := 69) hx hb dX5_laid_61 (by decide) (fun cd => ?_) (fun cd => ?_)
  · have hF := hF.1 cd
    refine lv_iload hx hb dX5_laid_69 (lv_at hl 6 rfl) ?_
    refine lv_iconst (v := 1) hx hb dX5_laid_71 (by decide) ?_
    refine lv_icmp_ne (tgt := 80) hx hb dX5_laid_72 (by decide) (fun cd => ?_) (fun cd => ?_)
    · have hF := hF.1 cd
      refine lv_bipush (v := 30) hx hb dX5_laid_80 (by decide) ?_
      exact wc_X5_laid_82 X hN hT h6 (bc - c4) (bs - s5) q1 t0 z2 30 hF _ _ _ _ _ hB (lv_sub hl [2, 3, 1, 0] rfl) hH
    · have hF := hF.2 cd
      refine lv_bipush (v := 25) hx hb dX5_laid_75 (by decide) ?_
      refine lv_goto (tgt := 82) hx hb dX5_laid_77 (by decide) ?_
      exact wc_X5_laid_82 X hN hT h6 (bc - c4) (bs - s5) q1 t0 z2 25 hF _ _ _ _ _ hB (lv_sub hl [2, 3, 1, 0] rfl) hH
  · have hF := hF.2 cd
    refine lv_bipush (v := 60) hx hb dX5_laid_64 (by decide) ?_
    refine lv_goto (tgt := 82) hx hb dX5_laid_66 (by decide) ?_
    exact wc_X5_laid_82 X hN hT h6 (bc - c4) (bs - s5) q1 t0 z2 60 hF _ _ _ _ _ hB (lv_sub hl [2, 3, 1, 0] rfl) hH
set_option maxHeartbeats 4000000 in
set_option maxRecDepth 100000 in
theorem wc_X5_laid {l : Launch} {D : va_G} {cA : Nat → ClassId} {P : Nat → Prop} {G : Nat × Nat × Nat} {o : Nat} {Q : Int32 → ZH → Prop} {h : ZH} {C S : Nat} {q1 : Option Nat} {v2 : Int32} {q3 : Option Nat} {v4 : Int32} (hl9 : l.stackTraces = false) (hF : fc_X5_laid G o Q h C S q1 v2 q3 v4) :
    zc_M l yX5_laid (ws_ yX5_laid cX5_laid 7 (some .int)) 10 D cA P G [.ref o, va_rf q1, .int v2, va_rf q3, .int v4] h C S (fun v h' => ∃ z : Int32, v = some (.int z) ∧ Q z h') zc_no := by
  refine zc_ofF hl9 rfl (by decide +kernel) (zc_slle (by simp [zc_k1, zc_kI, zc_kR]) (Nat.le_of_ble_eq_true rfl)) ?_
  intro p e s m args below meth c H locs ls X hN hT hH hl
  have hx := X.1
  have hb := X.2.1
  have hown := X.2.2.2.1
  have hts := X.2.2.2.2.1
  have hl : lv_has ls 7 [(0, .ref o), (1, va_rf q1), (2, .int v2), (3, va_rf q3), (4, .int v4)] := by
    have h9 := hl
    rw [zc_ags _ (by simp [zc_k1, zc_kI, zc_kR]) 0] at h9
    exact h9
  have hB : 0 + C ≤ C ∧ 0 + S ≤ S := ⟨by omega, by omega⟩
  unfold fc_X5_laid at hF
  refine zq_aload_n hx hb dX5_laid_0 rfl (lv_at hl 1 rfl) ?_
  obtain ⟨b1, eb1, hF⟩ := hF
  refine zq_st (st2 := [.ref b1]) (by rw [eb1]; first | done | rfl) ?_
  refine zc_call (c1 := 0) (s1 := 0) (rest := []) hH hB (Nat.zero_le _) (Nat.zero_le _) (fun hf => rv_needsHolder_3 X hH q957 hF ⟨Nat.le_of_ble_eq_true rfl, Nat.le_of_ble_eq_true rfl, Nat.le_of_ble_eq_true rfl⟩ hl.1 (st0 := [.ref b1]) rfl (Nat.le_of_ble_eq_true rfl) dX5_laid_1 hf) (fun E9 ce9 q9 h9 H locs hx9 => False.elim hx9) (fun v9 h9 H locs hv9 hH hB => ?_)
  obtain ⟨z2, rfl, hF, rfl⟩ := hv9
  refine lv_if_eq (tgt := 18) hx hb dX5_laid_4 (by decide) (fun cd => ?_) (fun cd => ?_)
  · have hF := hF.1 cd
    refine lv_iconst (v := 0) hx hb dX5_laid_18 (by decide) ?_
    exact wc_X5_laid_19 X hN hT h C S q1 v2 q3 v4 0 hF _ _ _ _ _ hB (lv_sub hl [0, 1, 2, 3, 4] rfl) hH
  · have hF := hF.2 cd
    refine zq_aload_n hx hb dX5_laid_7 rfl (lv_at hl 1 rfl) ?_
    refine zq_aload_n hx hb dX5_laid_8 rfl (lv_at hl 3 rfl) ?_
    obtain ⟨b3, eb3, hF⟩ := hF
    refine zq_st (st2 := [.ref b3, va_rf q1]) (by rw [eb3]; first | done | rfl) ?_
    obtain ⟨hc, hF⟩ := hF
    refine zc_getf X hH hc 9 709 ("ChurchyardBook$Person", "end", "I", false) (by decide +kernel) (v := .int (zi h 709 b3)) rfl q889 (Or.inl rfl) dX5_laid_9 ?_
    refine zq_st (st2 := [.int (zi h 709 b3), .ref b1]) (by rw [eb1]; first | done | rfl) ?_
    refine zc_call (c1 := 0) (s1 := 0) (rest := []) hH hB (Nat.zero_le _) (Nat.zero_le _) (fun hf => rv_lacks_14 X hH (by decide +kernel) hF ⟨Nat.le_of_ble_eq_true rfl, Nat.le_of_ble_eq_true rfl, Nat.le_of_ble_eq_true rfl⟩ hl.1 (st0 := [.int (zi h 709 b3), .ref b1]) rfl (Nat.le_of_ble_eq_true rfl) dX5_laid_12 hf) (fun E9 ce9 q9 h9 H locs hx9 => False.elim hx9) (fun v9 h9 H locs hv9 hH hB => ?_)
    obtain ⟨z4, rfl, hF, rfl⟩ := hv9
    refine lv_goto (tgt := 19) hx hb dX5_laid_15 (by decide) ?_
    exact wc_X5_laid_19 X hN hT h C S q1 v2 q3 v4 z4 hF _ _ _ _ _ hB (lv_sub hl [0, 1, 2, 3, 4] rfl) hH
set_option maxHeartbeats 4000000 in
set_option maxRecDepth 100000 in
theorem wc_X5_bury_21 {p : Program} {l : Launch} {e : Env} {s : State} {m : MethodId} {args : Array Value} {below : List Frame} {meth : Method} {c : Code} {D : va_G} {cA : Nat → ClassId} {P : Nat → Prop} {G : Nat × Nat × Nat} {C S : Nat} {o : Nat} {Q : Int32 → ZH → Prop} {XE : String → Nat → ZH → Prop} (X : zc_Cx p l s m args meth c cX5_bury 8 (some .int) "ChurchyardBook$Book" D cA P G) (hN : meth.name = "bury") (hT : c.exceptionTable.toList = tableOf []) :
    ∀ (h : ZH) (bc bs : Nat) (v1 : Int32) (v2 : Int32) (v3 : Int32) (v4 : Int32) (v5 : Int32) (t0 : Int32), fc_X5_bury_21 G o Q XE h bc bs v1 v2 v3 v4 v5 t0 → ∀ (H : Heap) (locs : List Loc) (ls : Array Slot) (cells slots : Nat), cells + bc ≤ C ∧ slots + bs ≤ S → lv_has ls 8 [(0, .ref o), (1, .int v1), (2, .int v2), (3, .int v3), (4, .int v4), (5, .int v5)] → zc_H D cA P h s H locs → W p l e (zc_Ro 11 C S) s m args below meth c H locs cells slots (vx_MQ below (zc_Q D cA P (fun v h' => ∃ z : Int32, v = some (.int z) ∧ Q z h')) (zc_X D cA P XE) args s C S P) (F0 m 21 ls [.int t0]) := by
  have hx := X.1
  have hb := X.2.1
  have hown := X.2.2.2.1
  have hts := X.2.2.2.2.1
  intro h bc bs v1 v2 v3 v4 v5 t0 hF
  intro H locs ls cells slots hB hl hH
  unfold fc_X5_bury_21 at hF
  refine lv_iload hx hb dX5_bury_21 (lv_at hl 5 rfl) ?_
  refine lv_ineg hx hb dX5_bury_23 ?_
  obtain ⟨c1, s2, hc1, hs1, hF⟩ := hF
  refine zc_call (c1 := c1) (s1 := s2) (rest := []) hH hB hc1 hs1 (fun hf => zc_rSN X hH (As := [.int t0, .int (-v5)]) (host := "ChurchyardBook") (wc_X1_need X.2.2.2.2.2.2.2.1 hF) (lw_meth q265) (by decide +kernel) q87 q264 ⟨by decide, by decide, rfl⟩ ⟨Nat.le_of_ble_eq_true rfl, Nat.le_of_ble_eq_true rfl, Nat.le_of_ble_eq_true rfl⟩ rfl hl.1 (st0 := [.int (-v5), .int t0]) rfl (Nat.le_of_ble_eq_true rfl) dX5_bury_24 hf) (fun E9 ce9 q3 h4 H locs hx9 hH hB hce hcv hcl => ?_) (fun v9 h9 H locs hv9 hH hB => ?_)
  · exact zc_out X hH hB (by rw [hT]; intro x hx9; cases hx9) hce hcv hcl hx9
  obtain ⟨rfl, hF, rfl⟩ := hv9
  refine lv_aload_n hx hb dX5_bury_27 rfl (lv_at hl 0 rfl) ?_
  refine lv_iload_n hx hb dX5_bury_28 rfl (lv_at hl 1 rfl) ?_
  obtain ⟨hc, hF⟩ := hF
  refine zc_call (c1 := 0) (s1 := 0) (rest := []) hH hB (Nat.zero_le _) (Nat.zero_le _) (fun hf => zc_rV X hH hc (by decide) rfl (As := [.int v1]) (wc_X5_grave X.2.2.2.2.2.2.2.1 hF) (lw_V q953 q954 q955 q91 q956) ⟨rfl, by decide, by decide, rfl⟩ ⟨Nat.le_of_ble_eq_true rfl, Nat.le_of_ble_eq_true rfl, Nat.le_of_ble_eq_true rfl⟩ rfl hl.1 (st0 := [.int v1, .ref o]) rfl (Nat.le_of_ble_eq_true rfl) dX5_bury_29 hf) (fun E9 ce9 q9 h9 H locs hx9 => False.elim hx9) (fun v9 h9 H locs hv9 hH hB => ?_)
  obtain ⟨r5, rfl, hF, rfl⟩ := hv9
  refine zq_astore (r := r5) (lv' := [(6, va_rf r5), (0, .ref o), (1, .int v1), (2, .int v2), (3, .int v3), (4, .int v4), (5, .int v5)]) hx hb rfl dX5_bury_32 hl (by decide) rfl (fun ls hl => ?_)
  refine lv_aload_n hx hb dX5_bury_34 rfl (lv_at hl 1 rfl) ?_
  refine lv_iload_n hx hb dX5_bury_35 rfl (lv_at hl 4 rfl) ?_
  obtain ⟨hc, hF⟩ := hF
  refine zc_call (c1 := 0) (s1 := 0) (rest := []) hH hB (Nat.zero_le _) (Nat.zero_le _) (fun hf => zc_rV X hH hc (by decide) rfl (As := [.int v3]) (wc_X5_person X.2.2.2.2.2.2.2.1 hF) (lw_V q937 q938 q939 q91 q940) ⟨rfl, by decide, by decide, rfl⟩ ⟨Nat.le_of_ble_eq_true rfl, Nat.le_of_ble_eq_true rfl, Nat.le_of_ble_eq_true rfl⟩ rfl hl.1 (st0 := [.int v3, .ref o]) rfl (Nat.le_of_ble_eq_true rfl) dX5_bury_36 hf) (fun E9 ce9 q9 h9 H locs hx9 => False.elim hx9) (fun v9 h9 H locs hv9 hH hB => ?_)
  obtain ⟨r6, rfl, hF, rfl⟩ := hv9
  refine zq_astore (r := r6) (lv' := [(7, va_rf r6), (6, va_rf r5), (0, .ref o), (1, .int v1), (2, .int v2), (3, .int v3), (4, .int v4), (5, .int v5)]) hx hb rfl dX5_bury_39 hl (by decide) (by cases r5 <;> rfl) (fun ls hl => ?_)
  refine zq_aload hx hb dX5_bury_41 (lv_at hl 0 rfl) ?_
  refine lv_iload hx hb dX5_bury_43 (lv_at hl 6 rfl) ?_
  obtain ⟨b7, eb7, hF⟩ := hF
  refine zq_st (st2 := [.int v4, .ref b7]) (by rw [eb7]; first | done | rfl) ?_
  obtain ⟨hc, hF⟩ := hF
  refine zc_puti X hH hc 8 708 ("ChurchyardBook$Person", "kind", "I", false) (by decide +kernel) rfl q884 (Or.inl rfl) (ty := .int) (by decide +kernel) rfl rfl (Or.inl rfl) dX5_bury_45 (fun h8 H locs eh8 hH => ?_)
  have hF := hF h8 eh8
  refine zq_aload hx hb dX5_bury_48 (lv_at hl 0 rfl) ?_
  refine lv_aload_n hx hb dX5_bury_50 rfl (lv_at hl 2 rfl) ?_
  refine zq_aload hx hb dX5_bury_51 (lv_at hl 1 rfl) ?_
  refine lv_iload hx hb dX5_bury_53 (lv_at hl 6 rfl) ?_
  obtain ⟨hc, hF⟩ := hF
  refine zc_call (c1 := 0) (s1 := 0) (rest := [va_rf r6]) hH hB (Nat.zero_le _) (Nat.zero_le _) (fun hf => zc_rV X hH hc (by decide) rfl (As := [va_rf r5, .int v4]) (wc_X5_endOf X.2.2.2.2.2.2.2.1 hF) (lw_V q1111 q1113 qs16 q91 q1114) ⟨rfl, by decide, by decide, rfl⟩ ⟨Nat.le_of_ble_eq_true rfl, Nat.le_of_ble_eq_true rfl, Nat.le_of_ble_eq_true rfl⟩ rfl hl.1 (st0 := [.int v4, va_rf r5, .ref o, va_rf r6]) rfl (by simp only [List.map_cons, List.map_nil, List.sum_cons, List.sum_nil, zc_k1]; exact Nat.le_of_ble_eq_true rfl) dX5_bury_55 hf) (fun E9 ce9 q9 h9 H locs hx9 => False.elim hx9) (fun v9 h9 H locs hv9 hH hB => ?_)
  obtain ⟨z9, rfl, hF, rfl⟩ := hv9
  refine zq_st (st2 := [.int z9, .ref b7]) (by rw [eb7]; first | done | rfl) ?_
  obtain ⟨hc, hF⟩ := hF
  refine zc_puti X hH hc 9 709 ("ChurchyardBook$Person", "end", "I", false) (by decide +kernel) rfl q889 (Or.inl rfl) (ty := .int) (by decide +kernel) rfl rfl (Or.inl rfl) dX5_bury_58 (fun h10 H locs eh10 hH => ?_)
  have hF := hF h10 eh10
  refine lv_aload_n hx hb dX5_bury_61 rfl (lv_at hl 2 rfl) ?_
  refine lv_aload_n hx hb dX5_bury_62 rfl (lv_at hl 2 rfl) ?_
  refine zq_aload hx hb dX5_bury_63 (lv_at hl 1 rfl) ?_
  refine lv_iload_n hx hb dX5_bury_65 rfl (lv_at hl 4 rfl) ?_
  refine zq_aload hx hb dX5_bury_66 (lv_at hl 0 rfl) ?_
  refine lv_iload hx hb dX5_bury_68 (lv_at hl 6 rfl) ?_
  obtain ⟨hc, hF⟩ := hF
  obtain ⟨c11, s12, hc1, hs1, hF⟩ := hF
  refine zc_call (c1 := c11) (s1 := s12) (rest := [.ref o]) hH hB hc1 hs1 (fun hf => zc_rV X hH hc (by decide) rfl (As := [va_rf r5, .int v2, va_rf r6, .int v4]) (wc_X5_laid X.2.2.2.2.2.2.2.1 hF) (lw_V q1293 q1295 qs18 q91 q1296) ⟨rfl, by decide, by decide, rfl⟩ ⟨Nat.le_of_ble_eq_true rfl, Nat.le_of_ble_eq_true rfl, Nat.le_of_ble_eq_true rfl⟩ rfl hl.1 (st0 := [.int v4, va_rf r6, .int v2, va_rf r5, .ref o, .ref o]) rfl (Nat.le_of_ble_eq_true rfl) dX5_bury_70 hf) (fun E9 ce9 q9 h9 H locs hx9 => False.elim hx9) (fun v9 h14 H locs hv9 hH hB => ?_)
  obtain ⟨z13, rfl, hF⟩ := hv9
  obtain ⟨hc, hF⟩ := hF
  refine zc_call (c1 := 0) (s1 := 0) (rest := []) hH hB (Nat.zero_le _) (Nat.zero_le _) (fun hf => zc_rV X hH hc (by decide) rfl (As := [.int z13]) (wc_X5_paid X.2.2.2.2.2.2.2.1 hF) (lw_V q998 q1000 qs10 q91 q1001) ⟨rfl, by decide, by decide, rfl⟩ ⟨Nat.le_of_ble_eq_true rfl, Nat.le_of_ble_eq_true rfl, Nat.le_of_ble_eq_true rfl⟩ rfl hl.1 (st0 := [.int z13, .ref o]) rfl (Nat.le_of_ble_eq_true rfl) dX5_bury_73 hf) (fun E9 ce9 q9 h9 H locs hx9 => False.elim hx9) (fun v9 h16 H locs hv9 hH hB => ?_)
  obtain ⟨z15, rfl, hF⟩ := hv9
  exact zc_iret X hH hB rfl rfl ⟨_, rfl, hF⟩ dX5_bury_76
set_option maxHeartbeats 4000000 in
set_option maxRecDepth 100000 in
theorem wc_X5_bury {l : Launch} {D : va_G} {cA : Nat → ClassId} {P : Nat → Prop} {G : Nat × Nat × Nat} {o : Nat} {Q : Int32 → ZH → Prop} {XE : String → Nat → ZH → Prop} {h : ZH} {C S : Nat} {v1 : Int32} {v2 : Int32} {v3 : Int32} {v4 : Int32} (hl9 : l.stackTraces = false) (hF : fc_X5_bury G o Q XE h C S v1 v2 v3 v4) :
    zc_M l yX5_bury (ws_ yX5_bury cX5_bury 8 (some .int)) 11 D cA P G [.ref o, .int v1, .int v2, .int v3, .int v4] h C S (fun v h' => ∃ z : Int32, v = some (.int z) ∧ Q z h') XE := by
  refine zc_ofF hl9 rfl (by decide +kernel) (Nat.le_of_ble_eq_true rfl) ?_
  intro p e s m args below meth c H locs ls X hN hT hH hl
  have hx := X.1
  have hb := X.2.1
  have hown := X.2.2.2.1
  have hts := X.2.2.2.2.1
  have hl : lv_has ls 8 [(0, .ref o), (1, .int v1), (2, .int v2), (3, .int v3), (4, .int v4)] := hl
  have hB : 0 + C ≤ C ∧ 0 + S ≤ S := ⟨by omega, by omega⟩
  unfold fc_X5_bury at hF
  refine lv_aload_n hx hb dX5_bury_0 rfl (lv_at hl 0 rfl) ?_
  refine lv_iload_n hx hb dX5_bury_1 rfl (lv_at hl 1 rfl) ?_
  refine lv_iload_n hx hb dX5_bury_2 rfl (lv_at hl 2 rfl) ?_
  refine lv_iload_n hx hb dX5_bury_3 rfl (lv_at hl 3 rfl) ?_
  refine lv_iload hx hb dX5_bury_4 (lv_at hl 4 rfl) ?_
  obtain ⟨hc, hF⟩ := hF
  refine zc_call (c1 := 0) (s1 := 0) (rest := []) hH hB (Nat.zero_le _) (Nat.zero_le _) (fun hf => zc_rV X hH hc (by decide) rfl (As := [.int v1, .int v2, .int v3, .int v4]) (wc_X5_why X.2.2.2.2.2.2.2.1 hF) (lw_V q1107 q1108 q1109 q91 q1110) ⟨rfl, by decide, by decide, rfl⟩ ⟨Nat.le_of_ble_eq_true rfl, Nat.le_of_ble_eq_true rfl, Nat.le_of_ble_eq_true rfl⟩ rfl hl.1 (st0 := [.int v4, .int v3, .int v2, .int v1, .ref o]) rfl (Nat.le_of_ble_eq_true rfl) dX5_bury_6 hf) (fun E9 ce9 q9 h9 H locs hx9 => False.elim hx9) (fun v9 h9 H locs hv9 hH hB => ?_)
  obtain ⟨z1, rfl, hF, rfl⟩ := hv9
  refine lv_istore (lv' := [(5, .int z1), (0, .ref o), (1, .int v1), (2, .int v2), (3, .int v3), (4, .int v4)]) hx hb dX5_bury_9 hl (by decide) rfl (fun ls hl => ?_)
  refine lv_iload hx hb dX5_bury_11 (lv_at hl 0 rfl) ?_
  refine lv_if_ne (tgt := 20) hx hb dX5_bury_13 (by decide) (fun cd => ?_) (fun cd => ?_)
  · have hF := hF.1 cd
    refine lv_iconst (v := 0) hx hb dX5_bury_20 (by decide) ?_
    exact wc_X5_bury_21 X hN hT h C S v1 v2 v3 v4 z1 0 hF _ _ _ _ _ hB (lv_sub hl [1, 2, 3, 4, 5, 0] rfl) hH
  · have hF := hF.2 cd
    refine lv_iconst (v := 1) hx hb dX5_bury_16 (by decide) ?_
    refine lv_goto (tgt := 21) hx hb dX5_bury_17 (by decide) ?_
    exact wc_X5_bury_21 X hN hT h C S v1 v2 v3 v4 z1 1 hF _ _ _ _ _ hB (lv_sub hl [1, 2, 3, 4, 5, 0] rfl) hH
set_option maxHeartbeats 4000000 in
set_option maxRecDepth 100000 in
theorem wc_J2_fastRemove_34 {p : Program} {l : Launch} {e : Env} {s : State} {m : MethodId} {args : Array Value} {below : List Frame} {meth : Method} {c : Code} {D : va_G} {cA : Nat → ClassId} {P : Nat → Prop} {G : Nat × Nat × Nat} {C S : Nat} {o : Nat} {Q : ZH → Prop} (X : zc_Cx p l s m args meth c cJ2_fastRemove 4 none "java/util/ArrayList" D cA P G) (hN : meth.name = "fastRemove") (hT : c.exceptionTable.toList = tableOf []) :
    ∀ (h : ZH) (q1 : Option Nat) (v3 : Int32), fc_J2_fastRemove_34 G o Q h q1 v3 → ∀ (H : Heap) (locs : List Loc) (ls : Array Slot) (cells slots : Nat), cells + 0 ≤ C ∧ slots + 0 ≤ S → lv_has ls 4 [(0, .ref o), (1, va_rf q1), (3, .int v3)] → zc_H D cA P h s H locs → W p l e (zc_Ro 1 C S) s m args below meth c H locs cells slots (vx_MQ below (zc_Q D cA P (fun v h' => v = none ∧ Q h')) (zc_X D cA P zc_no) args s C S P) (F0 m 34 ls []) := by
  have hx := X.1
  have hb := X.2.1
  have hown := X.2.2.2.1
  have hts := X.2.2.2.2.1
  intro h q1 v3 hF
  intro H locs ls cells slots hB hl hH
  unfold fc_J2_fastRemove_34 at hF
  refine zq_aload_n hx hb dJ2_fastRemove_34 rfl (lv_at hl 1 rfl) ?_
  refine lv_aload_n hx hb dJ2_fastRemove_35 rfl (lv_at hl 0 rfl) ?_
  refine lv_iload_n hx hb dJ2_fastRemove_36 rfl (lv_at hl 2 rfl) ?_
  refine lv_dup_x1 hx hb dJ2_fastRemove_37 rfl rfl ?_
  obtain ⟨hc, hF⟩ := hF
  refine zc_puti X hH hc 2 302 ("java/util/ArrayList", "size", "I", false) (by decide +kernel) rfl q172 (Or.inl rfl) (ty := .int) (by decide +kernel) rfl rfl (Or.inl rfl) dJ2_fastRemove_38 (fun h1 H locs eh1 hH => ?_)
  have hF := hF h1 eh1
  refine lv_null hx hb dJ2_fastRemove_41 ?_
  obtain ⟨b2, eb2, hF⟩ := hF
  refine zq_st (st2 := [.null, .int v3, .ref b2]) (by rw [eb2]; first | done | rfl) ?_
  obtain ⟨hc, hF⟩ := hF
  obtain ⟨hI, hF⟩ := hF
  obtain ⟨hR, hF⟩ := hF
  refine zc_aast X hH [22] 2 hc (by decide) (r := none) rfl hI hR dJ2_fastRemove_42 (fun h3 H locs eh3 hH => ?_)
  have hF := hF h3 eh3
  exact zc_vret X hH hB rfl ⟨rfl, hF⟩ dJ2_fastRemove_43
set_option maxHeartbeats 4000000 in
set_option maxRecDepth 100000 in
theorem wc_J2_fastRemove {l : Launch} {D : va_G} {cA : Nat → ClassId} {P : Nat → Prop} {G : Nat × Nat × Nat} {o : Nat} {Q : ZH → Prop} {h : ZH} {C S : Nat} {q1 : Option Nat} {v2 : Int32} (hl9 : l.stackTraces = false) (hF : fc_J2_fastRemove G o Q h q1 v2) :
    zc_M l yJ2_fastRemove (ws_ yJ2_fastRemove cJ2_fastRemove 4 none) 1 D cA P G [.ref o, va_rf q1, .int v2] h C S (fun v h' => v = none ∧ Q h') zc_no := by
  refine zc_ofF hl9 rfl (by decide +kernel) (zc_slle (by simp [zc_k1, zc_kI, zc_kR]) (Nat.le_of_ble_eq_true rfl)) ?_
  intro p e s m args below meth c H locs ls X hN hT hH hl
  have hx := X.1
  have hb := X.2.1
  have hown := X.2.2.2.1
  have hts := X.2.2.2.2.1
  have hl : lv_has ls 4 [(0, .ref o), (1, va_rf q1), (2, .int v2)] := by
    have h9 := hl
    rw [zc_ags _ (by simp [zc_k1, zc_kI, zc_kR]) 0] at h9
    exact h9
  have hB : 0 + 0 ≤ C ∧ 0 + 0 ≤ S := ⟨by omega, by omega⟩
  unfold fc_J2_fastRemove at hF
  refine lv_aload_n hx hb dJ2_fastRemove_0 rfl (lv_at hl 0 rfl) ?_
  refine lv_dup hx hb dJ2_fastRemove_1 rfl ?_
  obtain ⟨hc, hF⟩ := hF
  refine zc_getf X hH hc 0 300 ("java/util/AbstractList", "modCount", "I", false) (by decide +kernel) (v := .int (zi h 300 o)) rfl q174 (Or.inr q175) dJ2_fastRemove_2 ?_
  refine lv_iconst (v := 1) hx hb dJ2_fastRemove_5 (by decide) ?_
  refine lv_iadd hx hb dJ2_fastRemove_6 ?_
  obtain ⟨hc, hF⟩ := hF
  refine zc_puti X hH hc 0 300 ("java/util/AbstractList", "modCount", "I", false) (by decide +kernel) rfl q174 (Or.inr q175) (ty := .int) (by decide +kernel) rfl rfl (Or.inl rfl) dJ2_fastRemove_7 (fun h1 H locs eh1 hH => ?_)
  have hF := hF h1 eh1
  refine lv_aload_n hx hb dJ2_fastRemove_10 rfl (lv_at hl 0 rfl) ?_
  obtain ⟨hc, hF⟩ := hF
  refine zc_getf X hH hc 2 302 ("java/util/ArrayList", "size", "I", false) (by decide +kernel) (v := .int (zi h1 302 o)) rfl q172 (Or.inl rfl) dJ2_fastRemove_11 ?_
  refine lv_iconst (v := 1) hx hb dJ2_fastRemove_14 (by decide) ?_
  refine lv_isub hx hb dJ2_fastRemove_15 ?_
  refine lv_dup hx hb dJ2_fastRemove_16 rfl ?_
  refine lv_topi (fun x2 ex2 => ?_)
  have hF := hF x2 ex2
  refine lv_istore_n (lv' := [(3, .int x2), (0, .ref o), (1, va_rf q1), (2, .int v2)]) hx hb dJ2_fastRemove_17 rfl hl (by decide) rfl (fun ls hl => ?_)
  refine lv_iload_n hx hb dJ2_fastRemove_18 rfl (lv_at hl 3 rfl) ?_
  refine lv_icmp_le (tgt := 34) hx hb dJ2_fastRemove_19 (by decide) (fun cd => ?_) (fun cd => ?_)
  · have hF := hF.1 cd
    exact wc_J2_fastRemove_34 X hN hT h1 q1 x2 hF _ _ _ _ _ hB (lv_sub hl [1, 2, 0] rfl) hH
  · have hF := hF.2 cd
    refine zq_aload_n hx hb dJ2_fastRemove_22 rfl (lv_at hl 2 rfl) ?_
    refine lv_iload_n hx hb dJ2_fastRemove_23 rfl (lv_at hl 3 rfl) ?_
    refine lv_iconst (v := 1) hx hb dJ2_fastRemove_24 (by decide) ?_
    refine lv_iadd hx hb dJ2_fastRemove_25 ?_
    refine zq_aload_n hx hb dJ2_fastRemove_26 rfl (lv_at hl 2 rfl) ?_
    refine lv_iload_n hx hb dJ2_fastRemove_27 rfl (lv_at hl 3 rfl) ?_
    refine lv_iload_n hx hb dJ2_fastRemove_28 rfl (lv_at hl 0 rfl) ?_
    refine lv_iload_n hx hb dJ2_fastRemove_29 rfl (lv_at hl 3 rfl) ?_
    refine lv_isub hx hb dJ2_fastRemove_30 ?_
    obtain ⟨b3, eb3, hF⟩ := hF
    refine zq_st (st2 := [.int (x2 - v2), .int v2, .ref b3, .int (v2 + 1), va_rf q1]) (by rw [eb3]; first | done | rfl) ?_
    refine zq_st (st2 := [.int (x2 - v2), .int v2, .ref b3, .int (v2 + 1), .ref b3]) (by rw [eb3]; first | done | rfl) ?_
    obtain ⟨ha1, hF⟩ := hF
    obtain ⟨ha2, hF⟩ := hF
    obtain ⟨ha3, hF⟩ := hF
    obtain ⟨ha4, hF⟩ := hF
    obtain ⟨ha5, hF⟩ := hF
    obtain ⟨h4, eh4⟩ : ∃ z : ZH, z = zcps h1 2 b3 (v2 + 1).toNatClampNeg b3 v2.toNatClampNeg (x2 - v2).toNatClampNeg := ⟨_, rfl⟩
    have hF := hF h4 eh4
    refine zc_copy (R := zc_Ro 1 C S) (rest := []) X hH hl.1 q1077 q249 q248 q103 2 (by decide) ha1 ha2 ha3 ha4.1 ha4.2.1 ha4.2.2.1 ha4.2.2.2.1 ha4.2.2.2.2 (fun _ => ha5) (h' := h4) eh4 (Nat.le_of_ble_eq_true rfl) (Nat.le_of_ble_eq_true rfl) dJ2_fastRemove_31 (fun H locs hH => ?_)
    exact wc_J2_fastRemove_34 X hN hT h4 q1 x2 hF _ _ _ _ _ hB (lv_sub hl [1, 2, 0] rfl) hH
set_option maxHeartbeats 4000000 in
set_option maxRecDepth 100000 in
theorem wc_J2_remove_67 {p : Program} {l : Launch} {e : Env} {s : State} {m : MethodId} {args : Array Value} {below : List Frame} {meth : Method} {c : Code} {D : va_G} {cA : Nat → ClassId} {P : Nat → Prop} {G : Nat × Nat × Nat} {C S : Nat} {o : Nat} {Q : Int32 → ZH → Prop} (X : zc_Cx p l s m args meth c cJ2_remove 5 (some .boolean) "java/util/ArrayList" D cA P G) (hN : meth.name = "remove") (hT : c.exceptionTable.toList = tableOf []) :
    ∀ (h : ZH) (q2 : Option Nat) (v4 : Int32), fc_J2_remove_67 G o Q h q2 v4 → ∀ (H : Heap) (locs : List Loc) (ls : Array Slot) (cells slots : Nat), cells + 0 ≤ C ∧ slots + 0 ≤ S → lv_has ls 5 [(0, .ref o), (2, va_rf q2), (4, .int v4)] → zc_H D cA P h s H locs → W p l e (zc_Ro 2 C S) s m args below meth c H locs cells slots (vx_MQ below (zc_Q D cA P (fun v h' => ∃ z : Int32, v = some (.int z) ∧ Q z h')) (zc_X D cA P zc_no) args s C S P) (F0 m 67 ls []) := by
  have hx := X.1
  have hb := X.2.1
  have hown := X.2.2.2.1
  have hts := X.2.2.2.2.1
  intro h q2 v4 hF
  intro H locs ls cells slots hB hl hH
  unfold fc_J2_remove_67 at hF
  refine lv_aload_n hx hb dJ2_remove_67 rfl (lv_at hl 0 rfl) ?_
  refine zq_aload_n hx hb dJ2_remove_68 rfl (lv_at hl 1 rfl) ?_
  refine lv_iload hx hb dJ2_remove_69 (lv_at hl 2 rfl) ?_
  obtain ⟨hc, hF⟩ := hF
  refine zc_call (c1 := 0) (s1 := 0) (rest := []) hH hB (Nat.zero_le _) (Nat.zero_le _) (fun hf => zc_rV X hH hc (by decide) rfl (As := [va_rf q2, .int v4]) (wc_J2_fastRemove X.2.2.2.2.2.2.2.1 hF) (lw_V q1353 q1355 qs19 q94 q1356) ⟨rfl, by decide, by decide, rfl⟩ ⟨Nat.le_of_ble_eq_true rfl, Nat.le_of_ble_eq_true rfl, Nat.le_of_ble_eq_true rfl⟩ rfl hl.1 (st0 := [.int v4, va_rf q2, .ref o]) rfl (Nat.le_of_ble_eq_true rfl) dJ2_remove_71 hf) (fun E9 ce9 q9 h9 H locs hx9 => False.elim hx9) (fun v9 h1 H locs hv9 hH hB => ?_)
  obtain ⟨rfl, hF⟩ := hv9
  refine lv_iconst (v := 1) hx hb dJ2_remove_74 (by decide) ?_
  exact zc_iret X hH hB rfl rfl ⟨_, rfl, hF⟩ dJ2_remove_75
set_option maxHeartbeats 4000000 in
set_option maxRecDepth 100000 in
theorem wc_J2_remove_39 {p : Program} {l : Launch} {e : Env} {s : State} {m : MethodId} {args : Array Value} {below : List Frame} {meth : Method} {c : Code} {D : va_G} {cA : Nat → ClassId} {P : Nat → Prop} {G : Nat × Nat × Nat} {C S : Nat} {o : Nat} {Q : Int32 → ZH → Prop} (X : zc_Cx p l s m args meth c cJ2_remove 5 (some .boolean) "java/util/ArrayList" D cA P G) (hN : meth.name = "remove") (hT : c.exceptionTable.toList = tableOf []) :
    ∀ (n : Nat) (h : ZH) (q1 : Option Nat) (q2 : Option Nat) (v3 : Int32) (v4 : Int32), fc_J2_remove_39 G o Q n h q1 q2 v3 v4 → ∀ (H : Heap) (locs : List Loc) (ls : Array Slot) (cells slots : Nat), cells + 0 ≤ C ∧ slots + 0 ≤ S → lv_has ls 5 [(0, .ref o), (1, va_rf q1), (2, va_rf q2), (3, .int v3), (4, .int v4)] → zc_H D cA P h s H locs → W p l e (zc_Ro 2 C S) s m args below meth c H locs cells slots (vx_MQ below (zc_Q D cA P (fun v h' => ∃ z : Int32, v = some (.int z) ∧ Q z h')) (zc_X D cA P zc_no) args s C S P) (F0 m 39 ls []) := by
  have hx := X.1
  have hb := X.2.1
  have hown := X.2.2.2.1
  have hts := X.2.2.2.2.1
  intro n
  induction n with
  | zero =>
    intro h q1 q2 v3 v4 hF
    exact False.elim hF
  | succ n ih =>
    intro h q1 q2 v3 v4 hF
    intro H locs ls cells slots hB hl hH
    unfold fc_J2_remove_39 at hF
    refine lv_iload hx hb dJ2_remove_39 (lv_at hl 4 rfl) ?_
    refine lv_iload_n hx hb dJ2_remove_41 rfl (lv_at hl 3 rfl) ?_
    refine lv_icmp_ge (tgt := 65) hx hb dJ2_remove_42 (by decide) (fun cd => ?_) (fun cd => ?_)
    · have hF := hF.1 cd
      refine lv_iconst (v := 0) hx hb dJ2_remove_65 (by decide) ?_
      exact zc_iret X hH hB rfl rfl ⟨_, rfl, hF⟩ dJ2_remove_66
    · have hF := hF.2 cd
      refine zq_aload_n hx hb dJ2_remove_45 rfl (lv_at hl 1 rfl) ?_
      refine zq_aload_n hx hb dJ2_remove_46 rfl (lv_at hl 2 rfl) ?_
      refine lv_iload hx hb dJ2_remove_47 (lv_at hl 4 rfl) ?_
      obtain ⟨b1, eb1, hF⟩ := hF
      refine zq_st (st2 := [.int v4, .ref b1, va_rf q1]) (by rw [eb1]; first | done | rfl) ?_
      obtain ⟨hc, hF⟩ := hF
      obtain ⟨hI, hF⟩ := hF
      refine zc_aald X hH [22] 2 hc (by decide) hI dJ2_remove_49 ?_
      obtain ⟨b2, eb2, hF⟩ := hF
      refine zq_st (st2 := [va_rf (zs h 2 b1 v4.toNatClampNeg), .ref b2]) (by rw [eb2]; first | done | rfl) ?_
      refine zc_call (c1 := 0) (s1 := 0) (rest := []) hH hB (Nat.zero_le _) (Nat.zero_le _) (fun hf => rv_equals_4 X hH q1036 hF ⟨Nat.le_of_ble_eq_true rfl, Nat.le_of_ble_eq_true rfl, Nat.le_of_ble_eq_true rfl⟩ hl.1 (st0 := [va_rf (zs h 2 b1 v4.toNatClampNeg), .ref b2]) rfl (Nat.le_of_ble_eq_true rfl) dJ2_remove_50 hf) (fun E9 ce9 q9 h9 H locs hx9 => False.elim hx9) (fun v9 h9 H locs hv9 hH hB => ?_)
      obtain ⟨z3, rfl, hF, rfl⟩ := hv9
      refine lv_if_eq (tgt := 59) hx hb dJ2_remove_53 (by decide) (fun cd => ?_) (fun cd => ?_)
      · have hF := hF.1 cd
        obtain ⟨x4, ex4⟩ : ∃ z : Int32, z = v4 + 1 := ⟨_, rfl⟩
        have hF := hF x4 ex4
        refine lv_iinc (v := x4) (lv' := [(4, .int x4), (0, .ref o), (1, va_rf q1), (2, va_rf q2), (3, .int v3)]) hx hb dJ2_remove_59 hl (k := 4) rfl (by rw [ex4]; rfl) (by decide) rfl (fun ls hl => ?_)
        refine lv_goto (tgt := 39) hx hb dJ2_remove_62 (by decide) ?_
        exact ih h q1 q2 v3 x4 hF _ _ _ _ _ hB (lv_sub hl [1, 2, 3, 4, 0] rfl) hH
      · have hF := hF.2 cd
        refine lv_goto (tgt := 67) hx hb dJ2_remove_56 (by decide) ?_
        exact wc_J2_remove_67 X hN hT h q2 v4 hF _ _ _ _ _ hB (lv_sub hl [0, 2, 4] rfl) hH
set_option maxHeartbeats 4000000 in
set_option maxRecDepth 100000 in
theorem wc_J2_remove_17 {p : Program} {l : Launch} {e : Env} {s : State} {m : MethodId} {args : Array Value} {below : List Frame} {meth : Method} {c : Code} {D : va_G} {cA : Nat → ClassId} {P : Nat → Prop} {G : Nat × Nat × Nat} {C S : Nat} {o : Nat} {Q : Int32 → ZH → Prop} (X : zc_Cx p l s m args meth c cJ2_remove 5 (some .boolean) "java/util/ArrayList" D cA P G) (hN : meth.name = "remove") (hT : c.exceptionTable.toList = tableOf []) :
    ∀ (n : Nat) (h : ZH) (q2 : Option Nat) (v3 : Int32) (v4 : Int32), fc_J2_remove_17 G o Q n h q2 v3 v4 → ∀ (H : Heap) (locs : List Loc) (ls : Array Slot) (cells slots : Nat), cells + 0 ≤ C ∧ slots + 0 ≤ S → lv_has ls 5 [(0, .ref o), (2, va_rf q2), (3, .int v3), (4, .int v4)] → zc_H D cA P h s H locs → W p l e (zc_Ro 2 C S) s m args below meth c H locs cells slots (vx_MQ below (zc_Q D cA P (fun v h' => ∃ z : Int32, v = some (.int z) ∧ Q z h')) (zc_X D cA P zc_no) args s C S P) (F0 m 17 ls []) := by
  have hx := X.1
  have hb := X.2.1
  have hown := X.2.2.2.1
  have hts := X.2.2.2.2.1
  intro n
  induction n with
  | zero =>
    intro h q2 v3 v4 hF
    exact False.elim hF
  | succ n ih =>
    intro h q2 v3 v4 hF
    intro H locs ls cells slots hB hl hH
    unfold fc_J2_remove_17 at hF
    refine lv_iload hx hb dJ2_remove_17 (lv_at hl 3 rfl) ?_
    refine lv_iload_n hx hb dJ2_remove_19 rfl (lv_at hl 2 rfl) ?_
    refine lv_icmp_ge (tgt := 65) hx hb dJ2_remove_20 (by decide) (fun cd => ?_) (fun cd => ?_)
    · have hF := hF.1 cd
      refine lv_iconst (v := 0) hx hb dJ2_remove_65 (by decide) ?_
      exact zc_iret X hH hB rfl rfl ⟨_, rfl, hF⟩ dJ2_remove_66
    · have hF := hF.2 cd
      refine zq_aload_n hx hb dJ2_remove_23 rfl (lv_at hl 1 rfl) ?_
      refine lv_iload hx hb dJ2_remove_24 (lv_at hl 3 rfl) ?_
      obtain ⟨b1, eb1, hF⟩ := hF
      refine zq_st (st2 := [.int v4, .ref b1]) (by rw [eb1]; first | done | rfl) ?_
      obtain ⟨hc, hF⟩ := hF
      obtain ⟨hI, hF⟩ := hF
      refine zc_aald X hH [22] 2 hc (by decide) hI dJ2_remove_26 ?_
      refine zq_ifnonnull (tgt := 33) hx hb dJ2_remove_27 (by decide) (fun b2 eb2 => ?_) (fun cd => ?_)
      · have hF := hF.2 b2 eb2
        obtain ⟨x3, ex3⟩ : ∃ z : Int32, z = v4 + 1 := ⟨_, rfl⟩
        have hF := hF x3 ex3
        refine lv_iinc (v := x3) (lv' := [(4, .int x3), (0, .ref o), (2, va_rf q2), (3, .int v3)]) hx hb dJ2_remove_33 hl (k := 3) rfl (by rw [ex3]; rfl) (by decide) rfl (fun ls hl => ?_)
        refine lv_goto (tgt := 17) hx hb dJ2_remove_36 (by decide) ?_
        exact ih h q2 v3 x3 hF _ _ _ _ _ hB (lv_sub hl [1, 2, 3, 0] rfl) hH
      · have hF := hF.1 cd
        refine lv_goto (tgt := 67) hx hb dJ2_remove_30 (by decide) ?_
        exact wc_J2_remove_67 X hN hT h q2 v4 hF _ _ _ _ _ hB (lv_sub hl [0, 1, 3] rfl) hH
set_option maxHeartbeats 4000000 in
set_option maxRecDepth 100000 in
theorem wc_J2_remove {l : Launch} {D : va_G} {cA : Nat → ClassId} {P : Nat → Prop} {G : Nat × Nat × Nat} {o : Nat} {Q : Int32 → ZH → Prop} {h : ZH} {C S : Nat} {q1 : Option Nat} (hl9 : l.stackTraces = false) (hF : fc_J2_remove G o Q h q1) :
    zc_M l yJ2_remove (ws_ yJ2_remove cJ2_remove 5 (some .boolean)) 2 D cA P G [.ref o, va_rf q1] h C S (fun v h' => ∃ z : Int32, v = some (.int z) ∧ Q z h') zc_no := by
  refine zc_ofF hl9 rfl (by decide +kernel) (zc_slle (by simp [zc_k1, zc_kI, zc_kR]) (Nat.le_of_ble_eq_true rfl)) ?_
  intro p e s m args below meth c H locs ls X hN hT hH hl
  have hx := X.1
  have hb := X.2.1
  have hown := X.2.2.2.1
  have hts := X.2.2.2.2.1
  have hl : lv_has ls 5 [(0, .ref o), (1, va_rf q1)] := by
    have h9 := hl
    rw [zc_ags _ (by simp [zc_k1, zc_kI, zc_kR]) 0] at h9
    exact h9
  have hB : 0 + 0 ≤ C ∧ 0 + 0 ≤ S := ⟨by omega, by omega⟩
  unfold fc_J2_remove at hF
  refine lv_aload_n hx hb dJ2_remove_0 rfl (lv_at hl 0 rfl) ?_
  obtain ⟨hc, hF⟩ := hF
  refine zc_getf X hH hc 1 301 ("java/util/ArrayList", "elementData", "[Ljava/lang/Object;", false) (by decide +kernel) (v := va_rf (zr h 301 o)) rfl q171 (Or.inl rfl) dJ2_remove_1 ?_
  refine zq_top (fun r1 er1 => ?_)
  have hF := hF r1 er1
  refine zq_astore_n (r := r1) (lv' := [(2, va_rf r1), (0, .ref o), (1, va_rf q1)]) hx hb rfl dJ2_remove_4 rfl hl (by decide) (by cases q1 <;> rfl) (fun ls hl => ?_)
  refine lv_aload_n hx hb dJ2_remove_5 rfl (lv_at hl 1 rfl) ?_
  obtain ⟨hc, hF⟩ := hF
  refine zc_getf X hH hc 2 302 ("java/util/ArrayList", "size", "I", false) (by decide +kernel) (v := .int (zi h 302 o)) rfl q172 (Or.inl rfl) dJ2_remove_6 ?_
  refine lv_topi (fun x2 ex2 => ?_)
  have hF := hF x2 ex2
  refine lv_istore_n (lv' := [(3, .int x2), (2, va_rf r1), (0, .ref o), (1, va_rf q1)]) hx hb dJ2_remove_9 rfl hl (by decide) (by cases r1 <;> rfl) (fun ls hl => ?_)
  refine lv_iconst (v := 0) hx hb dJ2_remove_10 (by decide) ?_
  refine lv_istore (lv' := [(4, .int 0), (3, .int x2), (2, va_rf r1), (0, .ref o), (1, va_rf q1)]) hx hb dJ2_remove_11 hl (by decide) rfl (fun ls hl => ?_)
  refine zq_aload_n hx hb dJ2_remove_13 rfl (lv_at hl 4 rfl) ?_
  refine zq_ifnonnull (tgt := 39) hx hb dJ2_remove_14 (by decide) (fun b3 eb3 => ?_) (fun cd => ?_)
  · have hF := hF.2 b3 eb3
    obtain ⟨n9, hF⟩ := hF
    exact wc_J2_remove_39 X hN hT n9 h q1 r1 x2 0 hF _ _ _ _ _ hB (lv_sub hl [3, 4, 2, 1, 0] rfl) hH
  · have hF := hF.1 cd
    obtain ⟨n9, hF⟩ := hF
    exact wc_J2_remove_17 X hN hT n9 h r1 x2 0 hF _ _ _ _ _ hB (lv_sub hl [3, 2, 1, 0] rfl) hH
set_option maxHeartbeats 4000000 in
set_option maxRecDepth 100000 in
theorem wc_X9_take {l : Launch} {D : va_G} {cA : Nat → ClassId} {P : Nat → Prop} {G : Nat × Nat × Nat} {o : Nat} {Q : ZH → Prop} {h : ZH} {C S : Nat} {q1 : Option Nat} (hl9 : l.stackTraces = false) (hF : fc_X9_take G o Q h q1) :
    zc_M l yX9_take (ws_ yX9_take cX9_take 2 none) 3 D cA P G [.ref o, va_rf q1] h C S (fun v h' => v = none ∧ Q h') zc_no := by
  refine zc_ofF hl9 rfl (by decide +kernel) (zc_slle (by simp [zc_k1, zc_kI, zc_kR]) (Nat.le_of_ble_eq_true rfl)) ?_
  intro p e s m args below meth c H locs ls X hN hT hH hl
  have hx := X.1
  have hb := X.2.1
  have hown := X.2.2.2.1
  have hts := X.2.2.2.2.1
  have hl : lv_has ls 2 [(0, .ref o), (1, va_rf q1)] := by
    have h9 := hl
    rw [zc_ags _ (by simp [zc_k1, zc_kI, zc_kR]) 0] at h9
    exact h9
  have hB : 0 + 0 ≤ C ∧ 0 + 0 ≤ S := ⟨by omega, by omega⟩
  unfold fc_X9_take at hF
  refine lv_aload_n hx hb dX9_take_0 rfl (lv_at hl 0 rfl) ?_
  obtain ⟨hc, hF⟩ := hF
  refine zc_getf X hH hc 15 615 ("ChurchyardBook$Grave", "lying", "Ljava/util/ArrayList;", true) (by decide +kernel) (v := va_rf (zr h 615 o)) rfl q695 (Or.inl rfl) dX9_take_1 ?_
  refine zq_aload_n hx hb dX9_take_4 rfl (lv_at hl 1 rfl) ?_
  obtain ⟨b1, eb1, hF⟩ := hF
  refine zq_st (st2 := [va_rf q1, .ref b1]) (by rw [eb1]; first | done | rfl) ?_
  obtain ⟨hc, hF⟩ := hF
  refine zc_call (c1 := 0) (s1 := 0) (rest := []) hH hB (Nat.zero_le _) (Nat.zero_le _) (fun hf => zc_rV X hH hc (by decide) rfl (As := [va_rf q1]) (wc_J2_remove X.2.2.2.2.2.2.2.1 hF) (lw_V q1349 q1350 q1351 q94 q1352) ⟨rfl, by decide, by decide, rfl⟩ ⟨Nat.le_of_ble_eq_true rfl, Nat.le_of_ble_eq_true rfl, Nat.le_of_ble_eq_true rfl⟩ rfl hl.1 (st0 := [va_rf q1, .ref b1]) rfl (Nat.le_of_ble_eq_true rfl) dX9_take_5 hf) (fun E9 ce9 q9 h9 H locs hx9 => False.elim hx9) (fun v9 h3 H locs hv9 hH hB => ?_)
  obtain ⟨z2, rfl, hF⟩ := hv9
  refine lv_pop hx hb dX9_take_8 rfl ?_
  exact zc_vret X hH hB rfl ⟨rfl, hF⟩ dX9_take_9
set_option maxHeartbeats 1000000 in
theorem rv_take_20 {p : Program} {l : Launch} {e : Env} {R : Room} {s : State} {m : MethodId} {args : Array Value} {below : List Frame} {meth : Method} {c : Code} {H : Heap} {locs : List Loc} {cells slots : Nat} {cc : ByteArray} {nL pc : Nat} {ret : Option FieldType} {own : String} {ls : Array Slot} {rest : List Value} {D : va_G} {cA : Nat → ClassId} {P : Nat → Prop} {G : Nat × Nat × Nat} {h : ZH} {C S a idx : Nat} {Q : ZH → Prop} {q1 : Option Nat} (X : zc_Cx p l s m args meth c cc nL ret own D cA P G) (hH : zc_H D cA P h s H locs) (hlk : Cond.methodLink own idx ⟨"ChurchyardBook$Grave", "take", "(LChurchyardBook$Person;)V"⟩ ∈ lw_all) (hF : fv_take_20 G a Q h q1) (hR : zc_rm R 3 11) (hsize : ls.size = nL) {st0 : List Value} (hst : st0 = ([va_rf q1] : List Value).reverse ++ .ref a :: rest) (hcat : (rest.map fun v => v.category).sum ≤ 8) (hdg : decode cc pc = .ok (.invokevirtual idx, 3)) (hf : cells + C ≤ R.cells ∧ slots + S ≤ R.slots) :
    vx_Run p l e R s m args below meth c H locs cells slots C S (F0 m pc ls st0) rest (zc_Q D cA P (fun v h' => v = none ∧ Q h') (Value.ref a :: [va_rf q1]).toArray) (zc_X D cA P zc_no) P := by
  unfold fv_take_20 at hF
  have hR9 := hR
  obtain ⟨hc, hF⟩ := hF
  simp only [List.mem_cons, List.not_mem_nil, or_false] at hc
  rcases hc with hc | hc | hc | hc | hc | hc
  · have hF := hF (by rw [hc]; decide)
    exact zc_rU X hH hc (by decide) rfl (owner := "ChurchyardBook$Grave") (x := ⟨"ChurchyardBook$Grave", "take", "(LChurchyardBook$Person;)V"⟩) (As := [va_rf q1]) (wc_X9_take X.2.2.2.2.2.2.2.1 hF) (lw_meth q1348) (X.2.2.2.2.1 _ hlk) (X.2.2.2.2.1 _ q1341) (zc_declC X q1340 q1348) (X.2.2.2.2.1 _ q1346) q1340 q114 ⟨by decide, by decide, rfl⟩ (zc_rm_le hR9 (by decide) (by decide)) rfl hsize hst hcat hdg hf
  · have hF := hF (by rw [hc]; decide)
    exact zc_rU X hH hc (by decide) rfl (owner := "ChurchyardBook$Grave") (x := ⟨"ChurchyardBook$Grave", "take", "(LChurchyardBook$Person;)V"⟩) (As := [va_rf q1]) (wc_X9_take X.2.2.2.2.2.2.2.1 hF) (lw_meth q1348) (X.2.2.2.2.1 _ hlk) (X.2.2.2.2.1 _ q1341) (zc_declC X q1340 q1348) (X.2.2.2.2.1 _ q1343) q1340 q114 ⟨by decide, by decide, rfl⟩ (zc_rm_le hR9 (by decide) (by decide)) rfl hsize hst hcat hdg hf
  · have hF := hF (by rw [hc]; decide)
    exact zc_rU X hH hc (by decide) rfl (owner := "ChurchyardBook$Grave") (x := ⟨"ChurchyardBook$Grave", "take", "(LChurchyardBook$Person;)V"⟩) (As := [va_rf q1]) (wc_X9_take X.2.2.2.2.2.2.2.1 hF) (lw_meth q1348) (X.2.2.2.2.1 _ hlk) (X.2.2.2.2.1 _ q1341) (zc_declC X q1340 q1348) (X.2.2.2.2.1 _ q1344) q1340 q114 ⟨by decide, by decide, rfl⟩ (zc_rm_le hR9 (by decide) (by decide)) rfl hsize hst hcat hdg hf
  · have hF := hF (by rw [hc]; decide)
    exact zc_rU X hH hc (by decide) rfl (owner := "ChurchyardBook$Grave") (x := ⟨"ChurchyardBook$Grave", "take", "(LChurchyardBook$Person;)V"⟩) (As := [va_rf q1]) (wc_X9_take X.2.2.2.2.2.2.2.1 hF) (lw_meth q1348) (X.2.2.2.2.1 _ hlk) (X.2.2.2.2.1 _ q1341) (zc_declC X q1340 q1348) (X.2.2.2.2.1 _ q1347) q1340 q114 ⟨by decide, by decide, rfl⟩ (zc_rm_le hR9 (by decide) (by decide)) rfl hsize hst hcat hdg hf
  · have hF := hF (by rw [hc]; decide)
    exact zc_rU X hH hc (by decide) rfl (owner := "ChurchyardBook$Grave") (x := ⟨"ChurchyardBook$Grave", "take", "(LChurchyardBook$Person;)V"⟩) (As := [va_rf q1]) (wc_X9_take X.2.2.2.2.2.2.2.1 hF) (lw_meth q1348) (X.2.2.2.2.1 _ hlk) (X.2.2.2.2.1 _ q1341) (zc_declC X q1340 q1348) (X.2.2.2.2.1 _ q1345) q1340 q114 ⟨by decide, by decide, rfl⟩ (zc_rm_le hR9 (by decide) (by decide)) rfl hsize hst hcat hdg hf
  · have hF := hF (by rw [hc]; decide)
    exact zc_rU X hH hc (by decide) rfl (owner := "ChurchyardBook$Grave") (x := ⟨"ChurchyardBook$Grave", "take", "(LChurchyardBook$Person;)V"⟩) (As := [va_rf q1]) (wc_X9_take X.2.2.2.2.2.2.2.1 hF) (lw_meth q1348) (X.2.2.2.2.1 _ hlk) (X.2.2.2.2.1 _ q1341) (zc_declC X q1340 q1348) (X.2.2.2.2.1 _ q1342) q1340 q114 ⟨by decide, by decide, rfl⟩ (zc_rm_le hR9 (by decide) (by decide)) rfl hsize hst hcat hdg hf
set_option maxHeartbeats 4000000 in
set_option maxRecDepth 100000 in
theorem wc_X5_move_289 {p : Program} {l : Launch} {e : Env} {s : State} {m : MethodId} {args : Array Value} {below : List Frame} {meth : Method} {c : Code} {D : va_G} {cA : Nat → ClassId} {P : Nat → Prop} {G : Nat × Nat × Nat} {C S : Nat} {o : Nat} {Q : Int32 → ZH → Prop} {XE : String → Nat → ZH → Prop} (X : zc_Cx p l s m args meth c cX5_move 10 (some .int) "ChurchyardBook$Book" D cA P G) (hN : meth.name = "move") (hT : c.exceptionTable.toList = tableOf []) :
    ∀ (h : ZH) (bc bs : Nat) (v3 : Int32) (q5 : Option Nat) (q6 : Option Nat), fc_X5_move_289 G o Q XE h bc bs v3 q5 q6 → ∀ (H : Heap) (locs : List Loc) (ls : Array Slot) (cells slots : Nat), cells + bc ≤ C ∧ slots + bs ≤ S → lv_has ls 10 [(0, .ref o), (3, .int v3), (5, va_rf q5), (6, va_rf q6)] → zc_H D cA P h s H locs → W p l e (zc_Ro 11 C S) s m args below meth c H locs cells slots (vx_MQ below (zc_Q D cA P (fun v h' => ∃ z : Int32, v = some (.int z) ∧ Q z h')) (zc_X D cA P XE) args s C S P) (F0 m 289 ls []) := by
  have hx := X.1
  have hb := X.2.1
  have hown := X.2.2.2.1
  have hts := X.2.2.2.2.1
  intro h bc bs v3 q5 q6 hF
  intro H locs ls cells slots hB hl hH
  unfold fc_X5_move_289 at hF
  refine lv_aload_n hx hb dX5_move_289 rfl (lv_at hl 0 rfl) ?_
  refine lv_bipush (v := 90) hx hb dX5_move_290 (by decide) ?_
  refine lv_aload_n hx hb dX5_move_292 rfl (lv_at hl 0 rfl) ?_
  refine zq_aload hx hb dX5_move_293 (lv_at hl 3 rfl) ?_
  refine lv_iload_n hx hb dX5_move_295 rfl (lv_at hl 1 rfl) ?_
  refine zq_aload hx hb dX5_move_296 (lv_at hl 2 rfl) ?_
  refine zq_aload hx hb dX5_move_298 (lv_at hl 2 rfl) ?_
  obtain ⟨b1, eb1, hF⟩ := hF
  refine zq_st (st2 := [.ref b1, va_rf q5, .int v3, va_rf q6, .ref o, .int 90, .ref o]) (by rw [eb1]; first | done | rfl) ?_
  obtain ⟨hc, hF⟩ := hF
  refine zc_getf X hH hc 8 708 ("ChurchyardBook$Person", "kind", "I", false) (by decide +kernel) (v := .int (zi h 708 b1)) rfl q884 (Or.inl rfl) dX5_move_300 ?_
  obtain ⟨hc, hF⟩ := hF
  obtain ⟨c2, s3, hc1, hs1, hF⟩ := hF
  refine zc_call (c1 := c2) (s1 := s3) (rest := [.int 90, .ref o]) hH hB hc1 hs1 (fun hf => zc_rV X hH hc (by decide) rfl (As := [va_rf q6, .int v3, va_rf q5, .int (zi h 708 b1)]) (wc_X5_laid X.2.2.2.2.2.2.2.1 hF) (lw_V q1293 q1295 qs18 q91 q1296) ⟨rfl, by decide, by decide, rfl⟩ ⟨Nat.le_of_ble_eq_true rfl, Nat.le_of_ble_eq_true rfl, Nat.le_of_ble_eq_true rfl⟩ rfl hl.1 (st0 := [.int (zi h 708 b1), va_rf q5, .int v3, va_rf q6, .ref o, .int 90, .ref o]) rfl (Nat.le_of_ble_eq_true rfl) dX5_move_303 hf) (fun E9 ce9 q9 h9 H locs hx9 => False.elim hx9) (fun v9 h5 H locs hv9 hH hB => ?_)
  obtain ⟨z4, rfl, hF⟩ := hv9
  refine lv_iadd hx hb dX5_move_306 ?_
  obtain ⟨hc, hF⟩ := hF
  refine zc_call (c1 := 0) (s1 := 0) (rest := []) hH hB (Nat.zero_le _) (Nat.zero_le _) (fun hf => zc_rV X hH hc (by decide) rfl (As := [.int (90 + z4)]) (wc_X5_paid X.2.2.2.2.2.2.2.1 hF) (lw_V q998 q1000 qs10 q91 q1001) ⟨rfl, by decide, by decide, rfl⟩ ⟨Nat.le_of_ble_eq_true rfl, Nat.le_of_ble_eq_true rfl, Nat.le_of_ble_eq_true rfl⟩ rfl hl.1 (st0 := [.int (90 + z4), .ref o]) rfl (Nat.le_of_ble_eq_true rfl) dX5_move_307 hf) (fun E9 ce9 q9 h9 H locs hx9 => False.elim hx9) (fun v9 h7 H locs hv9 hH hB => ?_)
  obtain ⟨z6, rfl, hF⟩ := hv9
  exact zc_iret X hH hB rfl rfl ⟨_, rfl, hF⟩ dX5_move_310
set_option maxHeartbeats 4000000 in
set_option maxRecDepth 100000 in
theorem wc_X5_move_253 {p : Program} {l : Launch} {e : Env} {s : State} {m : MethodId} {args : Array Value} {below : List Frame} {meth : Method} {c : Code} {D : va_G} {cA : Nat → ClassId} {P : Nat → Prop} {G : Nat × Nat × Nat} {C S : Nat} {o : Nat} {Q : Int32 → ZH → Prop} {XE : String → Nat → ZH → Prop} (X : zc_Cx p l s m args meth c cX5_move 10 (some .int) "ChurchyardBook$Book" D cA P G) (hN : meth.name = "move") (hT : c.exceptionTable.toList = tableOf []) :
    ∀ (h : ZH) (bc bs : Nat) (v3 : Int32) (q5 : Option Nat) (q6 : Option Nat) (q7 : Option Nat) (q8 : Option Nat) (v9 : Int32) (t0 : Int32), fc_X5_move_253 G o Q XE h bc bs v3 q5 q6 q7 q8 v9 t0 → ∀ (H : Heap) (locs : List Loc) (ls : Array Slot) (cells slots : Nat), cells + bc ≤ C ∧ slots + bs ≤ S → lv_has ls 10 [(0, .ref o), (3, .int v3), (5, va_rf q5), (6, va_rf q6), (7, va_rf q7), (8, va_rf q8), (9, .int v9)] → zc_H D cA P h s H locs → W p l e (zc_Ro 11 C S) s m args below meth c H locs cells slots (vx_MQ below (zc_Q D cA P (fun v h' => ∃ z : Int32, v = some (.int z) ∧ Q z h')) (zc_X D cA P XE) args s C S P) (F0 m 253 ls [.int t0]) := by
  have hx := X.1
  have hb := X.2.1
  have hown := X.2.2.2.1
  have hts := X.2.2.2.2.1
  intro h bc bs v3 q5 q6 q7 q8 v9 t0 hF
  intro H locs ls cells slots hB hl hH
  unfold fc_X5_move_253 at hF
  refine lv_iload hx hb dX5_move_253 (lv_at hl 6 rfl) ?_
  refine lv_ineg hx hb dX5_move_255 ?_
  obtain ⟨c1, s2, hc1, hs1, hF⟩ := hF
  refine zc_call (c1 := c1) (s1 := s2) (rest := []) hH hB hc1 hs1 (fun hf => zc_rSN X hH (As := [.int t0, .int (-v9)]) (host := "ChurchyardBook") (wc_X1_need X.2.2.2.2.2.2.2.1 hF) (lw_meth q265) (by decide +kernel) q87 q264 ⟨by decide, by decide, rfl⟩ ⟨Nat.le_of_ble_eq_true rfl, Nat.le_of_ble_eq_true rfl, Nat.le_of_ble_eq_true rfl⟩ rfl hl.1 (st0 := [.int (-v9), .int t0]) rfl (Nat.le_of_ble_eq_true rfl) dX5_move_256 hf) (fun E9 ce9 q3 h4 H locs hx9 hH hB hce hcv hcl => ?_) (fun v9 h9 H locs hv9 hH hB => ?_)
  · exact zc_out X hH hB (by rw [hT]; intro x hx9; cases hx9) hce hcv hcl hx9
  obtain ⟨rfl, hF, rfl⟩ := hv9
  refine zq_aload hx hb dX5_move_259 (lv_at hl 4 rfl) ?_
  refine zq_aload hx hb dX5_move_261 (lv_at hl 2 rfl) ?_
  obtain ⟨b5, eb5, hF⟩ := hF
  refine zq_st (st2 := [va_rf q5, .ref b5]) (by rw [eb5]; first | done | rfl) ?_
  refine zc_call (c1 := 0) (s1 := 0) (rest := []) hH hB (Nat.zero_le _) (Nat.zero_le _) (fun hf => rv_take_20 X hH q1339 hF ⟨Nat.le_of_ble_eq_true rfl, Nat.le_of_ble_eq_true rfl, Nat.le_of_ble_eq_true rfl⟩ hl.1 (st0 := [va_rf q5, .ref b5]) rfl (Nat.le_of_ble_eq_true rfl) dX5_move_263 hf) (fun E9 ce9 q9 h9 H locs hx9 => False.elim hx9) (fun v9 h6 H locs hv9 hH hB => ?_)
  obtain ⟨rfl, hF⟩ := hv9
  refine zq_aload hx hb dX5_move_266 (lv_at hl 5 rfl) ?_
  refine zq_ifnull (tgt := 289) hx hb dX5_move_268 (by decide) (fun cd => ?_) (fun b7 eb7 => ?_)
  · have hF := hF.1 cd
    exact wc_X5_move_289 X hN hT h6 (bc - c1) (bs - s2) v3 q5 q6 hF _ _ _ _ _ hB (lv_sub hl [0, 1, 2, 3] rfl) hH
  · have hF := hF.2 b7 eb7
    refine zq_aload hx hb dX5_move_271 (lv_at hl 5 rfl) ?_
    refine lv_aload_n hx hb dX5_move_273 rfl (lv_at hl 0 rfl) ?_
    obtain ⟨hc, hF⟩ := hF
    refine zc_getf X hH hc 3 203 ("ChurchyardBook$Book", "today", "I", false) (by decide +kernel) (v := .int (zi h6 203 o)) rfl q194 (Or.inl rfl) dX5_move_274 ?_
    refine zq_st (st2 := [.int (zi h6 203 o), .ref b7]) (by rw [eb7]; first | done | rfl) ?_
    obtain ⟨hc, hF⟩ := hF
    refine zc_call (c1 := 0) (s1 := 0) (rest := []) hH hB (Nat.zero_le _) (Nat.zero_le _) (fun hf => zc_rV X hH hc (by decide) rfl (As := [.int (zi h6 203 o)]) (wc_X16_rests X.2.2.2.2.2.2.2.1 hF) (lw_V q1338 q1222 q1223 q121 q1224) ⟨rfl, by decide, by decide, rfl⟩ ⟨Nat.le_of_ble_eq_true rfl, Nat.le_of_ble_eq_true rfl, Nat.le_of_ble_eq_true rfl⟩ rfl hl.1 (st0 := [.int (zi h6 203 o), .ref b7]) rfl (Nat.le_of_ble_eq_true rfl) dX5_move_277 hf) (fun E9 ce9 q9 h9 H locs hx9 => False.elim hx9) (fun v9 h9 H locs hv9 hH hB => ?_)
    obtain ⟨z8, rfl, hF, rfl⟩ := hv9
    refine lv_if_ne (tgt := 289) hx hb dX5_move_280 (by decide) (fun cd => ?_) (fun cd => ?_)
    · have hF := hF.1 cd
      exact wc_X5_move_289 X hN hT h6 (bc - c1) (bs - s2) v3 q5 q6 hF _ _ _ _ _ hB (lv_sub hl [0, 1, 2, 3] rfl) hH
    · have hF := hF.2 cd
      refine zq_aload hx hb dX5_move_283 (lv_at hl 5 rfl) ?_
      refine lv_iconst (v := 2) hx hb dX5_move_285 (by decide) ?_
      refine zq_st (st2 := [.int 2, .ref b7]) (by rw [eb7]; first | done | rfl) ?_
      obtain ⟨hc, hF⟩ := hF
      refine zc_puti X hH hc 12 712 ("ChurchyardBook$Person", "depth", "I", false) (by decide +kernel) rfl q900 (Or.inl rfl) (ty := .int) (by decide +kernel) rfl rfl (Or.inl rfl) dX5_move_286 (fun h9 H locs eh9 hH => ?_)
      have hF := hF h9 eh9
      exact wc_X5_move_289 X hN hT h9 (bc - c1) (bs - s2) v3 q5 q6 hF _ _ _ _ _ hB (lv_sub hl [0, 1, 2, 3] rfl) hH
set_option maxHeartbeats 4000000 in
set_option maxRecDepth 100000 in
theorem wc_X5_move_216 {p : Program} {l : Launch} {e : Env} {s : State} {m : MethodId} {args : Array Value} {below : List Frame} {meth : Method} {c : Code} {D : va_G} {cA : Nat → ClassId} {P : Nat → Prop} {G : Nat × Nat × Nat} {C S : Nat} {o : Nat} {Q : Int32 → ZH → Prop} {XE : String → Nat → ZH → Prop} (X : zc_Cx p l s m args meth c cX5_move 10 (some .int) "ChurchyardBook$Book" D cA P G) (hN : meth.name = "move") (hT : c.exceptionTable.toList = tableOf []) :
    ∀ (h : ZH) (bc bs : Nat) (v3 : Int32) (q5 : Option Nat) (q6 : Option Nat) (q7 : Option Nat) (q8 : Option Nat) (t0 : Int32), fc_X5_move_216 G o Q XE h bc bs v3 q5 q6 q7 q8 t0 → ∀ (H : Heap) (locs : List Loc) (ls : Array Slot) (cells slots : Nat), cells + bc ≤ C ∧ slots + bs ≤ S → lv_has ls 10 [(0, .ref o), (3, .int v3), (5, va_rf q5), (6, va_rf q6), (7, va_rf q7), (8, va_rf q8)] → zc_H D cA P h s H locs → W p l e (zc_Ro 11 C S) s m args below meth c H locs cells slots (vx_MQ below (zc_Q D cA P (fun v h' => ∃ z : Int32, v = some (.int z) ∧ Q z h')) (zc_X D cA P XE) args s C S P) (F0 m 216 ls [.int t0]) := by
  have hx := X.1
  have hb := X.2.1
  have hown := X.2.2.2.1
  have hts := X.2.2.2.2.1
  intro h bc bs v3 q5 q6 q7 q8 t0 hF
  intro H locs ls cells slots hB hl hH
  unfold fc_X5_move_216 at hF
  refine lv_bipush (v := (-8)) hx hb dX5_move_216 (by decide) ?_
  obtain ⟨c1, s2, hc1, hs1, hF⟩ := hF
  refine zc_call (c1 := c1) (s1 := s2) (rest := []) hH hB hc1 hs1 (fun hf => zc_rSN X hH (As := [.int t0, .int (-8)]) (host := "ChurchyardBook") (wc_X1_need X.2.2.2.2.2.2.2.1 hF) (lw_meth q265) (by decide +kernel) q87 q264 ⟨by decide, by decide, rfl⟩ ⟨Nat.le_of_ble_eq_true rfl, Nat.le_of_ble_eq_true rfl, Nat.le_of_ble_eq_true rfl⟩ rfl hl.1 (st0 := [.int (-8), .int t0]) rfl (Nat.le_of_ble_eq_true rfl) dX5_move_218 hf) (fun E9 ce9 q3 h4 H locs hx9 hH hB hce hcv hcl => ?_) (fun v9 h9 H locs hv9 hH hB => ?_)
  · exact zc_out X hH hB (by rw [hT]; intro x hx9; cases hx9) hce hcv hcl hx9
  obtain ⟨rfl, hF, rfl⟩ := hv9
  refine lv_aload_n hx hb dX5_move_221 rfl (lv_at hl 0 rfl) ?_
  refine zq_aload hx hb dX5_move_222 (lv_at hl 3 rfl) ?_
  refine lv_iload_n hx hb dX5_move_224 rfl (lv_at hl 1 rfl) ?_
  refine zq_aload hx hb dX5_move_225 (lv_at hl 2 rfl) ?_
  refine zq_aload hx hb dX5_move_227 (lv_at hl 2 rfl) ?_
  obtain ⟨b5, eb5, hF⟩ := hF
  refine zq_st (st2 := [.ref b5, va_rf q5, .int v3, va_rf q6, .ref o]) (by rw [eb5]; first | done | rfl) ?_
  obtain ⟨hc, hF⟩ := hF
  refine zc_getf X hH hc 8 708 ("ChurchyardBook$Person", "kind", "I", false) (by decide +kernel) (v := .int (zi h 708 b5)) rfl q884 (Or.inl rfl) dX5_move_229 ?_
  refine zq_aload hx hb dX5_move_232 (lv_at hl 2 rfl) ?_
  refine zq_st (st2 := [.ref b5, .int (zi h 708 b5), va_rf q5, .int v3, va_rf q6, .ref o]) (by rw [eb5]; first | done | rfl) ?_
  obtain ⟨hc, hF⟩ := hF
  refine zc_getf X hH hc 9 709 ("ChurchyardBook$Person", "end", "I", false) (by decide +kernel) (v := .int (zi h 709 b5)) rfl q889 (Or.inl rfl) dX5_move_234 ?_
  refine lv_iconst (v := 1) hx hb dX5_move_237 (by decide) ?_
  obtain ⟨hc, hF⟩ := hF
  refine zc_call (c1 := 0) (s1 := 0) (rest := []) hH hB (Nat.zero_le _) (Nat.zero_le _) (fun hf => zc_rV X hH hc (by decide) rfl (As := [va_rf q6, .int v3, va_rf q5, .int (zi h 708 b5), .int (zi h 709 b5), .int 1]) (wc_X5_why_2 X.2.2.2.2.2.2.2.1 hF) (lw_V q1151 q1153 qs17 q91 q1154) ⟨rfl, by decide, by decide, rfl⟩ ⟨Nat.le_of_ble_eq_true rfl, Nat.le_of_ble_eq_true rfl, Nat.le_of_ble_eq_true rfl⟩ rfl hl.1 (st0 := [.int 1, .int (zi h 709 b5), .int (zi h 708 b5), va_rf q5, .int v3, va_rf q6, .ref o]) rfl (Nat.le_of_ble_eq_true rfl) dX5_move_238 hf) (fun E9 ce9 q9 h9 H locs hx9 => False.elim hx9) (fun v9 h9 H locs hv9 hH hB => ?_)
  obtain ⟨z6, rfl, hF, rfl⟩ := hv9
  refine lv_istore (lv' := [(9, .int z6), (0, .ref o), (3, .int v3), (5, va_rf q5), (6, va_rf q6), (7, va_rf q7), (8, va_rf q8)]) hx hb dX5_move_241 hl (by decide) (by cases q8 <;> rfl) (fun ls hl => ?_)
  refine lv_iload hx hb dX5_move_243 (lv_at hl 0 rfl) ?_
  refine lv_if_ne (tgt := 252) hx hb dX5_move_245 (by decide) (fun cd => ?_) (fun cd => ?_)
  · have hF := hF.1 cd
    refine lv_iconst (v := 0) hx hb dX5_move_252 (by decide) ?_
    exact wc_X5_move_253 X hN hT h (bc - c1) (bs - s2) v3 q5 q6 q7 q8 z6 0 hF _ _ _ _ _ hB (lv_sub hl [1, 2, 3, 4, 5, 6, 0] rfl) hH
  · have hF := hF.2 cd
    refine lv_iconst (v := 1) hx hb dX5_move_248 (by decide) ?_
    refine lv_goto (tgt := 253) hx hb dX5_move_249 (by decide) ?_
    exact wc_X5_move_253 X hN hT h (bc - c1) (bs - s2) v3 q5 q6 q7 q8 z6 1 hF _ _ _ _ _ hB (lv_sub hl [1, 2, 3, 4, 5, 6, 0] rfl) hH
set_option maxHeartbeats 4000000 in
set_option maxRecDepth 100000 in
theorem wc_X5_move_211 {p : Program} {l : Launch} {e : Env} {s : State} {m : MethodId} {args : Array Value} {below : List Frame} {meth : Method} {c : Code} {D : va_G} {cA : Nat → ClassId} {P : Nat → Prop} {G : Nat × Nat × Nat} {C S : Nat} {o : Nat} {Q : Int32 → ZH → Prop} {XE : String → Nat → ZH → Prop} (X : zc_Cx p l s m args meth c cX5_move 10 (some .int) "ChurchyardBook$Book" D cA P G) (hN : meth.name = "move") (hT : c.exceptionTable.toList = tableOf []) :
    ∀ (h : ZH) (bc bs : Nat) (v3 : Int32) (q5 : Option Nat) (q6 : Option Nat) (q7 : Option Nat) (q8 : Option Nat), fc_X5_move_211 G o Q XE h bc bs v3 q5 q6 q7 q8 → ∀ (H : Heap) (locs : List Loc) (ls : Array Slot) (cells slots : Nat), cells + bc ≤ C ∧ slots + bs ≤ S → lv_has ls 10 [(0, .ref o), (3, .int v3), (5, va_rf q5), (6, va_rf q6), (7, va_rf q7), (8, va_rf q8)] → zc_H D cA P h s H locs → W p l e (zc_Ro 11 C S) s m args below meth c H locs cells slots (vx_MQ below (zc_Q D cA P (fun v h' => ∃ z : Int32, v = some (.int z) ∧ Q z h')) (zc_X D cA P XE) args s C S P) (F0 m 211 ls []) := by
  have hx := X.1
  have hb := X.2.1
  have hown := X.2.2.2.1
  have hts := X.2.2.2.2.1
  intro h bc bs v3 q5 q6 q7 q8 hF
  intro H locs ls cells slots hB hl hH
  unfold fc_X5_move_211 at hF
  refine lv_iconst (v := 1) hx hb dX5_move_211 (by decide) ?_
  refine lv_goto (tgt := 216) hx hb dX5_move_212 (by decide) ?_
  exact wc_X5_move_216 X hN hT h bc bs v3 q5 q6 q7 q8 1 hF _ _ _ _ _ hB (lv_sub hl [0, 1, 2, 3, 4, 5] rfl) hH
set_option maxHeartbeats 4000000 in
set_option maxRecDepth 100000 in
theorem wc_X5_move_182 {p : Program} {l : Launch} {e : Env} {s : State} {m : MethodId} {args : Array Value} {below : List Frame} {meth : Method} {c : Code} {D : va_G} {cA : Nat → ClassId} {P : Nat → Prop} {G : Nat × Nat × Nat} {C S : Nat} {o : Nat} {Q : Int32 → ZH → Prop} {XE : String → Nat → ZH → Prop} (X : zc_Cx p l s m args meth c cX5_move 10 (some .int) "ChurchyardBook$Book" D cA P G) (hN : meth.name = "move") (hT : c.exceptionTable.toList = tableOf []) :
    ∀ (h : ZH) (bc bs : Nat) (v3 : Int32) (v4 : Int32) (q5 : Option Nat) (q6 : Option Nat) (q7 : Option Nat) (u0 : Option Nat), fc_X5_move_182 G o Q XE h bc bs v3 v4 q5 q6 q7 u0 → ∀ (H : Heap) (locs : List Loc) (ls : Array Slot) (cells slots : Nat), cells + bc ≤ C ∧ slots + bs ≤ S → lv_has ls 10 [(0, .ref o), (3, .int v3), (4, .int v4), (5, va_rf q5), (6, va_rf q6), (7, va_rf q7)] → zc_H D cA P h s H locs → W p l e (zc_Ro 11 C S) s m args below meth c H locs cells slots (vx_MQ below (zc_Q D cA P (fun v h' => ∃ z : Int32, v = some (.int z) ∧ Q z h')) (zc_X D cA P XE) args s C S P) (F0 m 182 ls [va_rf u0]) := by
  have hx := X.1
  have hb := X.2.1
  have hown := X.2.2.2.1
  have hts := X.2.2.2.2.1
  intro h bc bs v3 v4 q5 q6 q7 u0 hF
  intro H locs ls cells slots hB hl hH
  unfold fc_X5_move_182 at hF
  refine zq_astore (r := u0) (lv' := [(8, va_rf u0), (0, .ref o), (3, .int v3), (4, .int v4), (5, va_rf q5), (6, va_rf q6), (7, va_rf q7)]) hx hb rfl dX5_move_182 hl (by decide) (by cases q7 <;> rfl) (fun ls hl => ?_)
  refine zq_aload hx hb dX5_move_184 (lv_at hl 0 rfl) ?_
  refine zq_ifnull (tgt := 211) hx hb dX5_move_186 (by decide) (fun cd => ?_) (fun b1 eb1 => ?_)
  · have hF := hF.1 cd
    exact wc_X5_move_211 X hN hT h bc bs v3 q5 q6 q7 u0 hF _ _ _ _ _ hB (lv_sub hl [1, 2, 4, 5, 6, 0] rfl) hH
  · have hF := hF.2 b1 eb1
    refine zq_aload hx hb dX5_move_189 (lv_at hl 0 rfl) ?_
    refine lv_aload_n hx hb dX5_move_191 rfl (lv_at hl 1 rfl) ?_
    obtain ⟨hc, hF⟩ := hF
    refine zc_getf X hH hc 3 203 ("ChurchyardBook$Book", "today", "I", false) (by decide +kernel) (v := .int (zi h 203 o)) rfl q194 (Or.inl rfl) dX5_move_192 ?_
    refine zq_st (st2 := [.int (zi h 203 o), .ref b1]) (by rw [eb1]; first | done | rfl) ?_
    obtain ⟨hc, hF⟩ := hF
    refine zc_call (c1 := 0) (s1 := 0) (rest := []) hH hB (Nat.zero_le _) (Nat.zero_le _) (fun hf => zc_rV X hH hc (by decide) rfl (As := [.int (zi h 203 o)]) (wc_X16_rests X.2.2.2.2.2.2.2.1 hF) (lw_V q1338 q1222 q1223 q121 q1224) ⟨rfl, by decide, by decide, rfl⟩ ⟨Nat.le_of_ble_eq_true rfl, Nat.le_of_ble_eq_true rfl, Nat.le_of_ble_eq_true rfl⟩ rfl hl.1 (st0 := [.int (zi h 203 o), .ref b1]) rfl (Nat.le_of_ble_eq_true rfl) dX5_move_195 hf) (fun E9 ce9 q9 h9 H locs hx9 => False.elim hx9) (fun v9 h9 H locs hv9 hH hB => ?_)
    obtain ⟨z2, rfl, hF, rfl⟩ := hv9
    refine lv_if_eq (tgt := 211) hx hb dX5_move_198 (by decide) (fun cd => ?_) (fun cd => ?_)
    · have hF := hF.1 cd
      exact wc_X5_move_211 X hN hT h bc bs v3 q5 q6 q7 u0 hF _ _ _ _ _ hB (lv_sub hl [1, 2, 4, 5, 6, 0] rfl) hH
    · have hF := hF.2 cd
      refine zq_aload hx hb dX5_move_201 (lv_at hl 0 rfl) ?_
      refine zq_st (st2 := [.ref b1]) (by rw [eb1]; first | done | rfl) ?_
      obtain ⟨hc, hF⟩ := hF
      refine zc_getf X hH hc 0 700 ("ChurchyardBook$Person", "number", "I", true) (by decide +kernel) (v := .int (zi h 700 b1)) rfl q863 (Or.inl rfl) dX5_move_203 ?_
      refine lv_iload hx hb dX5_move_206 (lv_at hl 3 rfl) ?_
      refine lv_icmp_ne (tgt := 215) hx hb dX5_move_208 (by decide) (fun cd => ?_) (fun cd => ?_)
      · have hF := hF.1 cd
        refine lv_iconst (v := 0) hx hb dX5_move_215 (by decide) ?_
        exact wc_X5_move_216 X hN hT h bc bs v3 q5 q6 q7 u0 0 hF _ _ _ _ _ hB (lv_sub hl [1, 2, 4, 5, 6, 0] rfl) hH
      · have hF := hF.2 cd
        exact wc_X5_move_211 X hN hT h bc bs v3 q5 q6 q7 u0 hF _ _ _ _ _ hB (lv_sub hl [1, 2, 4, 5, 6, 0] rfl) hH
set_option maxHeartbeats 4000000 in
set_option maxRecDepth 100000 in
theorem wc_X5_move_153 {p : Program} {l : Launch} {e : Env} {s : State} {m : MethodId} {args : Array Value} {below : List Frame} {meth : Method} {c : Code} {D : va_G} {cA : Nat → ClassId} {P : Nat → Prop} {G : Nat × Nat × Nat} {C S : Nat} {o : Nat} {Q : Int32 → ZH → Prop} {XE : String → Nat → ZH → Prop} (X : zc_Cx p l s m args meth c cX5_move 10 (some .int) "ChurchyardBook$Book" D cA P G) (hN : meth.name = "move") (hT : c.exceptionTable.toList = tableOf []) :
    ∀ (h : ZH) (bc bs : Nat) (v3 : Int32) (v4 : Int32) (q5 : Option Nat) (q6 : Option Nat) (q7 : Option Nat) (t0 : Int32), fc_X5_move_153 G o Q XE h bc bs v3 v4 q5 q6 q7 t0 → ∀ (H : Heap) (locs : List Loc) (ls : Array Slot) (cells slots : Nat), cells + bc ≤ C ∧ slots + bs ≤ S → lv_has ls 10 [(0, .ref o), (3, .int v3), (4, .int v4), (5, va_rf q5), (6, va_rf q6), (7, va_rf q7)] → zc_H D cA P h s H locs → W p l e (zc_Ro 11 C S) s m args below meth c H locs cells slots (vx_MQ below (zc_Q D cA P (fun v h' => ∃ z : Int32, v = some (.int z) ∧ Q z h')) (zc_X D cA P XE) args s C S P) (F0 m 153 ls [.int t0]) := by
  have hx := X.1
  have hb := X.2.1
  have hown := X.2.2.2.1
  have hts := X.2.2.2.2.1
  intro h bc bs v3 v4 q5 q6 q7 t0 hF
  intro H locs ls cells slots hB hl hH
  unfold fc_X5_move_153 at hF
  refine lv_bipush (v := (-4)) hx hb dX5_move_153 (by decide) ?_
  obtain ⟨c1, s2, hc1, hs1, hF⟩ := hF
  refine zc_call (c1 := c1) (s1 := s2) (rest := []) hH hB hc1 hs1 (fun hf => zc_rSN X hH (As := [.int t0, .int (-4)]) (host := "ChurchyardBook") (wc_X1_need X.2.2.2.2.2.2.2.1 hF) (lw_meth q265) (by decide +kernel) q87 q264 ⟨by decide, by decide, rfl⟩ ⟨Nat.le_of_ble_eq_true rfl, Nat.le_of_ble_eq_true rfl, Nat.le_of_ble_eq_true rfl⟩ rfl hl.1 (st0 := [.int (-4), .int t0]) rfl (Nat.le_of_ble_eq_true rfl) dX5_move_155 hf) (fun E9 ce9 q3 h4 H locs hx9 hH hB hce hcv hcl => ?_) (fun v9 h9 H locs hv9 hH hB => ?_)
  · exact zc_out X hH hB (by rw [hT]; intro x hx9; cases hx9) hce hcv hcl hx9
  obtain ⟨rfl, hF, rfl⟩ := hv9
  refine zq_aload hx hb dX5_move_158 (lv_at hl 3 rfl) ?_
  obtain ⟨b5, eb5, hF⟩ := hF
  refine zq_st (st2 := [.ref b5]) (by rw [eb5]; first | done | rfl) ?_
  obtain ⟨hc, hF⟩ := hF
  refine zc_getf X hH hc 12 712 ("ChurchyardBook$Person", "depth", "I", false) (by decide +kernel) (v := .int (zi h 712 b5)) rfl q900 (Or.inl rfl) dX5_move_160 ?_
  refine lv_iconst (v := 1) hx hb dX5_move_163 (by decide) ?_
  refine lv_icmp_ne (tgt := 181) hx hb dX5_move_164 (by decide) (fun cd => ?_) (fun cd => ?_)
  · have hF := hF.1 cd
    refine lv_null hx hb dX5_move_181 ?_
    exact wc_X5_move_182 X hN hT h (bc - c1) (bs - s2) v3 v4 q5 q6 q7 none hF _ _ _ _ _ hB (lv_sub hl [0, 1, 2, 3, 4, 5] rfl) hH
  · have hF := hF.2 cd
    refine zq_aload hx hb dX5_move_167 (lv_at hl 5 rfl) ?_
    refine zq_aload hx hb dX5_move_169 (lv_at hl 3 rfl) ?_
    refine zq_st (st2 := [.ref b5, va_rf q7]) (by rw [eb5]; first | done | rfl) ?_
    obtain ⟨hc, hF⟩ := hF
    refine zc_getf X hH hc 11 711 ("ChurchyardBook$Person", "column", "I", false) (by decide +kernel) (v := .int (zi h 711 b5)) rfl q896 (Or.inl rfl) dX5_move_171 ?_
    refine lv_iconst (v := 0) hx hb dX5_move_174 (by decide) ?_
    obtain ⟨b6, eb6, hF⟩ := hF
    refine zq_st (st2 := [.int 0, .int (zi h 711 b5), .ref b6]) (by rw [eb6]; first | done | rfl) ?_
    refine zc_call (c1 := 0) (s1 := 0) (rest := []) hH hB (Nat.zero_le _) (Nat.zero_le _) (fun hf => rv_in_9 X hH q1337 hF ⟨Nat.le_of_ble_eq_true rfl, Nat.le_of_ble_eq_true rfl, Nat.le_of_ble_eq_true rfl⟩ hl.1 (st0 := [.int 0, .int (zi h 711 b5), .ref b6]) rfl (Nat.le_of_ble_eq_true rfl) dX5_move_175 hf) (fun E9 ce9 q9 h9 H locs hx9 => False.elim hx9) (fun v9 h9 H locs hv9 hH hB => ?_)
    obtain ⟨r7, rfl, hF, rfl⟩ := hv9
    refine lv_goto (tgt := 182) hx hb dX5_move_178 (by decide) ?_
    exact wc_X5_move_182 X hN hT h (bc - c1) (bs - s2) v3 v4 q5 q6 q7 r7 hF _ _ _ _ _ hB (lv_sub hl [0, 1, 2, 3, 4, 5] rfl) hH
set_option maxHeartbeats 4000000 in
set_option maxRecDepth 100000 in
theorem wc_X5_move_127 {p : Program} {l : Launch} {e : Env} {s : State} {m : MethodId} {args : Array Value} {below : List Frame} {meth : Method} {c : Code} {D : va_G} {cA : Nat → ClassId} {P : Nat → Prop} {G : Nat × Nat × Nat} {C S : Nat} {o : Nat} {Q : Int32 → ZH → Prop} {XE : String → Nat → ZH → Prop} (X : zc_Cx p l s m args meth c cX5_move 10 (some .int) "ChurchyardBook$Book" D cA P G) (hN : meth.name = "move") (hT : c.exceptionTable.toList = tableOf []) :
    ∀ (h : ZH) (bc bs : Nat) (v3 : Int32) (v4 : Int32) (q5 : Option Nat) (q6 : Option Nat) (t0 : Int32), fc_X5_move_127 G o Q XE h bc bs v3 v4 q5 q6 t0 → ∀ (H : Heap) (locs : List Loc) (ls : Array Slot) (cells slots : Nat), cells + bc ≤ C ∧ slots + bs ≤ S → lv_has ls 10 [(0, .ref o), (3, .int v3), (4, .int v4), (5, va_rf q5), (6, va_rf q6)] → zc_H D cA P h s H locs → W p l e (zc_Ro 11 C S) s m args below meth c H locs cells slots (vx_MQ below (zc_Q D cA P (fun v h' => ∃ z : Int32, v = some (.int z) ∧ Q z h')) (zc_X D cA P XE) args s C S P) (F0 m 127 ls [.int t0]) := by
  have hx := X.1
  have hb := X.2.1
  have hown := X.2.2.2.1
  have hts := X.2.2.2.2.1
  intro h bc bs v3 v4 q5 q6 t0 hF
  intro H locs ls cells slots hB hl hH
  unfold fc_X5_move_127 at hF
  refine lv_bipush (v := (-3)) hx hb dX5_move_127 (by decide) ?_
  obtain ⟨c1, s2, hc1, hs1, hF⟩ := hF
  refine zc_call (c1 := c1) (s1 := s2) (rest := []) hH hB hc1 hs1 (fun hf => zc_rSN X hH (As := [.int t0, .int (-3)]) (host := "ChurchyardBook") (wc_X1_need X.2.2.2.2.2.2.2.1 hF) (lw_meth q265) (by decide +kernel) q87 q264 ⟨by decide, by decide, rfl⟩ ⟨Nat.le_of_ble_eq_true rfl, Nat.le_of_ble_eq_true rfl, Nat.le_of_ble_eq_true rfl⟩ rfl hl.1 (st0 := [.int (-3), .int t0]) rfl (Nat.le_of_ble_eq_true rfl) dX5_move_129 hf) (fun E9 ce9 q3 h4 H locs hx9 hH hB hce hcv hcl => ?_) (fun v9 h9 H locs hv9 hH hB => ?_)
  · exact zc_out X hH hB (by rw [hT]; intro x hx9; cases hx9) hce hcv hcl hx9
  obtain ⟨rfl, hF, rfl⟩ := hv9
  refine zq_aload hx hb dX5_move_132 (lv_at hl 3 rfl) ?_
  obtain ⟨b5, eb5, hF⟩ := hF
  refine zq_st (st2 := [.ref b5]) (by rw [eb5]; first | done | rfl) ?_
  obtain ⟨hc, hF⟩ := hF
  refine zc_getf X hH hc 10 710 ("ChurchyardBook$Person", "grave", "LChurchyardBook$Grave;", false) (by decide +kernel) (v := va_rf (zr h 710 b5)) rfl q892 (Or.inl rfl) dX5_move_134 ?_
  refine zq_top (fun r6 er6 => ?_)
  have hF := hF r6 er6
  refine zq_astore (r := r6) (lv' := [(7, va_rf r6), (0, .ref o), (3, .int v3), (4, .int v4), (5, va_rf q5), (6, va_rf q6)]) hx hb rfl dX5_move_137 hl (by decide) (by cases q6 <;> rfl) (fun ls hl => ?_)
  refine zq_aload hx hb dX5_move_139 (lv_at hl 0 rfl) ?_
  obtain ⟨b7, eb7, hF⟩ := hF
  refine zq_st (st2 := [.ref b7]) (by rw [eb7]; first | done | rfl) ?_
  obtain ⟨hc, hF⟩ := hF
  refine zc_getf X hH hc 6 606 ("ChurchyardBook$Grave", "state", "I", false) (by decide +kernel) (v := .int (zi h 606 b7)) rfl q672 (Or.inl rfl) dX5_move_141 ?_
  refine lv_iconst (v := 1) hx hb dX5_move_144 (by decide) ?_
  refine lv_icmp_ne (tgt := 152) hx hb dX5_move_145 (by decide) (fun cd => ?_) (fun cd => ?_)
  · have hF := hF.1 cd
    refine lv_iconst (v := 0) hx hb dX5_move_152 (by decide) ?_
    exact wc_X5_move_153 X hN hT h (bc - c1) (bs - s2) v3 v4 q5 q6 r6 0 hF _ _ _ _ _ hB (lv_sub hl [1, 2, 3, 4, 5, 0] rfl) hH
  · have hF := hF.2 cd
    refine lv_iconst (v := 1) hx hb dX5_move_148 (by decide) ?_
    refine lv_goto (tgt := 153) hx hb dX5_move_149 (by decide) ?_
    exact wc_X5_move_153 X hN hT h (bc - c1) (bs - s2) v3 v4 q5 q6 r6 1 hF _ _ _ _ _ hB (lv_sub hl [1, 2, 3, 4, 5, 0] rfl) hH
set_option maxHeartbeats 4000000 in
set_option maxRecDepth 100000 in
theorem wc_X5_move_126 {p : Program} {l : Launch} {e : Env} {s : State} {m : MethodId} {args : Array Value} {below : List Frame} {meth : Method} {c : Code} {D : va_G} {cA : Nat → ClassId} {P : Nat → Prop} {G : Nat × Nat × Nat} {C S : Nat} {o : Nat} {Q : Int32 → ZH → Prop} {XE : String → Nat → ZH → Prop} (X : zc_Cx p l s m args meth c cX5_move 10 (some .int) "ChurchyardBook$Book" D cA P G) (hN : meth.name = "move") (hT : c.exceptionTable.toList = tableOf []) :
    ∀ (h : ZH) (bc bs : Nat) (v3 : Int32) (v4 : Int32) (q5 : Option Nat) (q6 : Option Nat), fc_X5_move_126 G o Q XE h bc bs v3 v4 q5 q6 → ∀ (H : Heap) (locs : List Loc) (ls : Array Slot) (cells slots : Nat), cells + bc ≤ C ∧ slots + bs ≤ S → lv_has ls 10 [(0, .ref o), (3, .int v3), (4, .int v4), (5, va_rf q5), (6, va_rf q6)] → zc_H D cA P h s H locs → W p l e (zc_Ro 11 C S) s m args below meth c H locs cells slots (vx_MQ below (zc_Q D cA P (fun v h' => ∃ z : Int32, v = some (.int z) ∧ Q z h')) (zc_X D cA P XE) args s C S P) (F0 m 126 ls []) := by
  have hx := X.1
  have hb := X.2.1
  have hown := X.2.2.2.1
  have hts := X.2.2.2.2.1
  intro h bc bs v3 v4 q5 q6 hF
  intro H locs ls cells slots hB hl hH
  unfold fc_X5_move_126 at hF
  refine lv_iconst (v := 0) hx hb dX5_move_126 (by decide) ?_
  exact wc_X5_move_127 X hN hT h bc bs v3 v4 q5 q6 0 hF _ _ _ _ _ hB (lv_sub hl [0, 1, 2, 3, 4] rfl) hH
set_option maxHeartbeats 4000000 in
set_option maxRecDepth 100000 in
theorem wc_X5_move_90 {p : Program} {l : Launch} {e : Env} {s : State} {m : MethodId} {args : Array Value} {below : List Frame} {meth : Method} {c : Code} {D : va_G} {cA : Nat → ClassId} {P : Nat → Prop} {G : Nat × Nat × Nat} {C S : Nat} {o : Nat} {Q : Int32 → ZH → Prop} {XE : String → Nat → ZH → Prop} (X : zc_Cx p l s m args meth c cX5_move 10 (some .int) "ChurchyardBook$Book" D cA P G) (hN : meth.name = "move") (hT : c.exceptionTable.toList = tableOf []) :
    ∀ (h : ZH) (bc bs : Nat) (v3 : Int32) (v4 : Int32) (q5 : Option Nat) (q6 : Option Nat) (t0 : Int32), fc_X5_move_90 G o Q XE h bc bs v3 v4 q5 q6 t0 → ∀ (H : Heap) (locs : List Loc) (ls : Array Slot) (cells slots : Nat), cells + bc ≤ C ∧ slots + bs ≤ S → lv_has ls 10 [(0, .ref o), (3, .int v3), (4, .int v4), (5, va_rf q5), (6, va_rf q6)] → zc_H D cA P h s H locs → W p l e (zc_Ro 11 C S) s m args below meth c H locs cells slots (vx_MQ below (zc_Q D cA P (fun v h' => ∃ z : Int32, v = some (.int z) ∧ Q z h')) (zc_X D cA P XE) args s C S P) (F0 m 90 ls [.int t0]) := by
  have hx := X.1
  have hb := X.2.1
  have hown := X.2.2.2.1
  have hts := X.2.2.2.2.1
  intro h bc bs v3 v4 q5 q6 t0 hF
  intro H locs ls cells slots hB hl hH
  unfold fc_X5_move_90 at hF
  refine lv_iconst (v := (-1)) hx hb dX5_move_90 (by decide) ?_
  obtain ⟨c1, s2, hc1, hs1, hF⟩ := hF
  refine zc_call (c1 := c1) (s1 := s2) (rest := []) hH hB hc1 hs1 (fun hf => zc_rSN X hH (As := [.int t0, .int (-1)]) (host := "ChurchyardBook") (wc_X1_need X.2.2.2.2.2.2.2.1 hF) (lw_meth q265) (by decide +kernel) q87 q264 ⟨by decide, by decide, rfl⟩ ⟨Nat.le_of_ble_eq_true rfl, Nat.le_of_ble_eq_true rfl, Nat.le_of_ble_eq_true rfl⟩ rfl hl.1 (st0 := [.int (-1), .int t0]) rfl (Nat.le_of_ble_eq_true rfl) dX5_move_91 hf) (fun E9 ce9 q3 h4 H locs hx9 hH hB hce hcv hcl => ?_) (fun v9 h9 H locs hv9 hH hB => ?_)
  · exact zc_out X hH hB (by rw [hT]; intro x hx9; cases hx9) hce hcv hcl hx9
  obtain ⟨rfl, hF, rfl⟩ := hv9
  refine zq_aload hx hb dX5_move_94 (lv_at hl 3 rfl) ?_
  obtain ⟨b5, eb5, hF⟩ := hF
  refine zq_st (st2 := [.ref b5]) (by rw [eb5]; first | done | rfl) ?_
  obtain ⟨hc, hF⟩ := hF
  refine zc_getf X hH hc 10 710 ("ChurchyardBook$Person", "grave", "LChurchyardBook$Grave;", false) (by decide +kernel) (v := va_rf (zr h 710 b5)) rfl q892 (Or.inl rfl) dX5_move_96 ?_
  refine zq_ifnull (tgt := 126) hx hb dX5_move_99 (by decide) (fun cd => ?_) (fun b6 eb6 => ?_)
  · have hF := hF.1 cd
    exact wc_X5_move_126 X hN hT h (bc - c1) (bs - s2) v3 v4 q5 q6 hF _ _ _ _ _ hB (lv_sub hl [0, 1, 2, 3, 4] rfl) hH
  · have hF := hF.2 b6 eb6
    refine zq_aload hx hb dX5_move_102 (lv_at hl 3 rfl) ?_
    refine zq_st (st2 := [.ref b5]) (by rw [eb5]; first | done | rfl) ?_
    obtain ⟨hc, hF⟩ := hF
    refine zc_getf X hH hc 12 712 ("ChurchyardBook$Person", "depth", "I", false) (by decide +kernel) (v := .int (zi h 712 b5)) rfl q900 (Or.inl rfl) dX5_move_104 ?_
    refine lv_iconst (v := 2) hx hb dX5_move_107 (by decide) ?_
    refine lv_icmp_ge (tgt := 126) hx hb dX5_move_108 (by decide) (fun cd => ?_) (fun cd => ?_)
    · have hF := hF.1 cd
      exact wc_X5_move_126 X hN hT h (bc - c1) (bs - s2) v3 v4 q5 q6 hF _ _ _ _ _ hB (lv_sub hl [0, 1, 2, 3, 4] rfl) hH
    · have hF := hF.2 cd
      refine zq_aload hx hb dX5_move_111 (lv_at hl 3 rfl) ?_
      refine zq_st (st2 := [.ref b5]) (by rw [eb5]; first | done | rfl) ?_
      obtain ⟨hc, hF⟩ := hF
      refine zc_getf X hH hc 10 710 ("ChurchyardBook$Person", "grave", "LChurchyardBook$Grave;", false) (by decide +kernel) (v := va_rf (zr h 710 b5)) rfl q892 (Or.inl rfl) dX5_move_113 ?_
      refine zq_st (st2 := [.ref b6]) (by rw [eb6]; first | done | rfl) ?_
      refine zc_call (c1 := 0) (s1 := 0) (rest := []) hH hB (Nat.zero_le _) (Nat.zero_le _) (fun hf => rv_needsHolder_3 X hH q957 hF ⟨Nat.le_of_ble_eq_true rfl, Nat.le_of_ble_eq_true rfl, Nat.le_of_ble_eq_true rfl⟩ hl.1 (st0 := [.ref b6]) rfl (Nat.le_of_ble_eq_true rfl) dX5_move_116 hf) (fun E9 ce9 q9 h9 H locs hx9 => False.elim hx9) (fun v9 h9 H locs hv9 hH hB => ?_)
      obtain ⟨z7, rfl, hF, rfl⟩ := hv9
      refine lv_if_eq (tgt := 126) hx hb dX5_move_119 (by decide) (fun cd => ?_) (fun cd => ?_)
      · have hF := hF.1 cd
        exact wc_X5_move_126 X hN hT h (bc - c1) (bs - s2) v3 v4 q5 q6 hF _ _ _ _ _ hB (lv_sub hl [0, 1, 2, 3, 4] rfl) hH
      · have hF := hF.2 cd
        refine lv_iconst (v := 1) hx hb dX5_move_122 (by decide) ?_
        refine lv_goto (tgt := 127) hx hb dX5_move_123 (by decide) ?_
        exact wc_X5_move_127 X hN hT h (bc - c1) (bs - s2) v3 v4 q5 q6 1 hF _ _ _ _ _ hB (lv_sub hl [0, 1, 2, 3, 4] rfl) hH
set_option maxHeartbeats 4000000 in
set_option maxRecDepth 100000 in
theorem wc_X5_move_85 {p : Program} {l : Launch} {e : Env} {s : State} {m : MethodId} {args : Array Value} {below : List Frame} {meth : Method} {c : Code} {D : va_G} {cA : Nat → ClassId} {P : Nat → Prop} {G : Nat × Nat × Nat} {C S : Nat} {o : Nat} {Q : Int32 → ZH → Prop} {XE : String → Nat → ZH → Prop} (X : zc_Cx p l s m args meth c cX5_move 10 (some .int) "ChurchyardBook$Book" D cA P G) (hN : meth.name = "move") (hT : c.exceptionTable.toList = tableOf []) :
    ∀ (h : ZH) (bc bs : Nat) (v3 : Int32) (v4 : Int32) (q5 : Option Nat) (q6 : Option Nat), fc_X5_move_85 G o Q XE h bc bs v3 v4 q5 q6 → ∀ (H : Heap) (locs : List Loc) (ls : Array Slot) (cells slots : Nat), cells + bc ≤ C ∧ slots + bs ≤ S → lv_has ls 10 [(0, .ref o), (3, .int v3), (4, .int v4), (5, va_rf q5), (6, va_rf q6)] → zc_H D cA P h s H locs → W p l e (zc_Ro 11 C S) s m args below meth c H locs cells slots (vx_MQ below (zc_Q D cA P (fun v h' => ∃ z : Int32, v = some (.int z) ∧ Q z h')) (zc_X D cA P XE) args s C S P) (F0 m 85 ls []) := by
  have hx := X.1
  have hb := X.2.1
  have hown := X.2.2.2.1
  have hts := X.2.2.2.2.1
  intro h bc bs v3 v4 q5 q6 hF
  intro H locs ls cells slots hB hl hH
  unfold fc_X5_move_85 at hF
  refine lv_iconst (v := 1) hx hb dX5_move_85 (by decide) ?_
  refine lv_goto (tgt := 90) hx hb dX5_move_86 (by decide) ?_
  exact wc_X5_move_90 X hN hT h bc bs v3 v4 q5 q6 1 hF _ _ _ _ _ hB (lv_sub hl [0, 1, 2, 3, 4] rfl) hH
set_option maxHeartbeats 4000000 in
set_option maxRecDepth 100000 in
theorem wc_X5_move_62 {p : Program} {l : Launch} {e : Env} {s : State} {m : MethodId} {args : Array Value} {below : List Frame} {meth : Method} {c : Code} {D : va_G} {cA : Nat → ClassId} {P : Nat → Prop} {G : Nat × Nat × Nat} {C S : Nat} {o : Nat} {Q : Int32 → ZH → Prop} {XE : String → Nat → ZH → Prop} (X : zc_Cx p l s m args meth c cX5_move 10 (some .int) "ChurchyardBook$Book" D cA P G) (hN : meth.name = "move") (hT : c.exceptionTable.toList = tableOf []) :
    ∀ (h : ZH) (bc bs : Nat) (v3 : Int32) (v4 : Int32) (q5 : Option Nat) (q6 : Option Nat) (t0 : Int32), fc_X5_move_62 G o Q XE h bc bs v3 v4 q5 q6 t0 → ∀ (H : Heap) (locs : List Loc) (ls : Array Slot) (cells slots : Nat), cells + bc ≤ C ∧ slots + bs ≤ S → lv_has ls 10 [(0, .ref o), (3, .int v3), (4, .int v4), (5, va_rf q5), (6, va_rf q6)] → zc_H D cA P h s H locs → W p l e (zc_Ro 11 C S) s m args below meth c H locs cells slots (vx_MQ below (zc_Q D cA P (fun v h' => ∃ z : Int32, v = some (.int z) ∧ Q z h')) (zc_X D cA P XE) args s C S P) (F0 m 62 ls [.int t0]) := by
  have hx := X.1
  have hb := X.2.1
  have hown := X.2.2.2.1
  have hts := X.2.2.2.2.1
  intro h bc bs v3 v4 q5 q6 t0 hF
  intro H locs ls cells slots hB hl hH
  unfold fc_X5_move_62 at hF
  refine lv_iconst (v := (-1)) hx hb dX5_move_62 (by decide) ?_
  obtain ⟨c1, s2, hc1, hs1, hF⟩ := hF
  refine zc_call (c1 := c1) (s1 := s2) (rest := []) hH hB hc1 hs1 (fun hf => zc_rSN X hH (As := [.int t0, .int (-1)]) (host := "ChurchyardBook") (wc_X1_need X.2.2.2.2.2.2.2.1 hF) (lw_meth q265) (by decide +kernel) q87 q264 ⟨by decide, by decide, rfl⟩ ⟨Nat.le_of_ble_eq_true rfl, Nat.le_of_ble_eq_true rfl, Nat.le_of_ble_eq_true rfl⟩ rfl hl.1 (st0 := [.int (-1), .int t0]) rfl (Nat.le_of_ble_eq_true rfl) dX5_move_63 hf) (fun E9 ce9 q3 h4 H locs hx9 hH hB hce hcv hcl => ?_) (fun v9 h9 H locs hv9 hH hB => ?_)
  · exact zc_out X hH hB (by rw [hT]; intro x hx9; cases hx9) hce hcv hcl hx9
  obtain ⟨rfl, hF, rfl⟩ := hv9
  refine zq_aload hx hb dX5_move_66 (lv_at hl 3 rfl) ?_
  obtain ⟨b5, eb5, hF⟩ := hF
  refine zq_st (st2 := [.ref b5]) (by rw [eb5]; first | done | rfl) ?_
  obtain ⟨hc, hF⟩ := hF
  refine zc_getf X hH hc 10 710 ("ChurchyardBook$Person", "grave", "LChurchyardBook$Grave;", false) (by decide +kernel) (v := va_rf (zr h 710 b5)) rfl q892 (Or.inl rfl) dX5_move_68 ?_
  refine zq_aload hx hb dX5_move_71 (lv_at hl 4 rfl) ?_
  refine lv_acmp_ne (rx := (zr h 710 b5)) (ry := q6) (tgt := 85) hx hb dX5_move_73 (by decide) (fun cd => ?_) (fun cd => ?_)
  · have hF := hF.1 cd
    exact wc_X5_move_85 X hN hT h (bc - c1) (bs - s2) v3 v4 q5 q6 hF _ _ _ _ _ hB (lv_sub hl [0, 1, 2, 3, 4] rfl) hH
  · have hF := hF.2 cd
    refine zq_aload hx hb dX5_move_76 (lv_at hl 3 rfl) ?_
    refine zq_st (st2 := [.ref b5]) (by rw [eb5]; first | done | rfl) ?_
    obtain ⟨hc, hF⟩ := hF
    refine zc_getf X hH hc 11 711 ("ChurchyardBook$Person", "column", "I", false) (by decide +kernel) (v := .int (zi h 711 b5)) rfl q896 (Or.inl rfl) dX5_move_78 ?_
    refine lv_iload_n hx hb dX5_move_81 rfl (lv_at hl 1 rfl) ?_
    refine lv_icmp_eq (tgt := 89) hx hb dX5_move_82 (by decide) (fun cd => ?_) (fun cd => ?_)
    · have hF := hF.1 cd
      refine lv_iconst (v := 0) hx hb dX5_move_89 (by decide) ?_
      exact wc_X5_move_90 X hN hT h (bc - c1) (bs - s2) v3 v4 q5 q6 0 hF _ _ _ _ _ hB (lv_sub hl [0, 1, 2, 3, 4] rfl) hH
    · have hF := hF.2 cd
      exact wc_X5_move_85 X hN hT h (bc - c1) (bs - s2) v3 v4 q5 q6 hF _ _ _ _ _ hB (lv_sub hl [0, 1, 2, 3, 4] rfl) hH
set_option maxHeartbeats 4000000 in
set_option maxRecDepth 100000 in
theorem wc_X5_move_61 {p : Program} {l : Launch} {e : Env} {s : State} {m : MethodId} {args : Array Value} {below : List Frame} {meth : Method} {c : Code} {D : va_G} {cA : Nat → ClassId} {P : Nat → Prop} {G : Nat × Nat × Nat} {C S : Nat} {o : Nat} {Q : Int32 → ZH → Prop} {XE : String → Nat → ZH → Prop} (X : zc_Cx p l s m args meth c cX5_move 10 (some .int) "ChurchyardBook$Book" D cA P G) (hN : meth.name = "move") (hT : c.exceptionTable.toList = tableOf []) :
    ∀ (h : ZH) (bc bs : Nat) (v3 : Int32) (v4 : Int32) (q5 : Option Nat) (q6 : Option Nat), fc_X5_move_61 G o Q XE h bc bs v3 v4 q5 q6 → ∀ (H : Heap) (locs : List Loc) (ls : Array Slot) (cells slots : Nat), cells + bc ≤ C ∧ slots + bs ≤ S → lv_has ls 10 [(0, .ref o), (3, .int v3), (4, .int v4), (5, va_rf q5), (6, va_rf q6)] → zc_H D cA P h s H locs → W p l e (zc_Ro 11 C S) s m args below meth c H locs cells slots (vx_MQ below (zc_Q D cA P (fun v h' => ∃ z : Int32, v = some (.int z) ∧ Q z h')) (zc_X D cA P XE) args s C S P) (F0 m 61 ls []) := by
  have hx := X.1
  have hb := X.2.1
  have hown := X.2.2.2.1
  have hts := X.2.2.2.2.1
  intro h bc bs v3 v4 q5 q6 hF
  intro H locs ls cells slots hB hl hH
  unfold fc_X5_move_61 at hF
  refine lv_iconst (v := 0) hx hb dX5_move_61 (by decide) ?_
  exact wc_X5_move_62 X hN hT h bc bs v3 v4 q5 q6 0 hF _ _ _ _ _ hB (lv_sub hl [0, 1, 2, 3, 4] rfl) hH
set_option maxHeartbeats 4000000 in
set_option maxRecDepth 100000 in
theorem wc_X5_move_57 {p : Program} {l : Launch} {e : Env} {s : State} {m : MethodId} {args : Array Value} {below : List Frame} {meth : Method} {c : Code} {D : va_G} {cA : Nat → ClassId} {P : Nat → Prop} {G : Nat × Nat × Nat} {C S : Nat} {o : Nat} {Q : Int32 → ZH → Prop} {XE : String → Nat → ZH → Prop} (X : zc_Cx p l s m args meth c cX5_move 10 (some .int) "ChurchyardBook$Book" D cA P G) (hN : meth.name = "move") (hT : c.exceptionTable.toList = tableOf []) :
    ∀ (h : ZH) (bc bs : Nat) (v3 : Int32) (v4 : Int32) (q5 : Option Nat) (q6 : Option Nat), fc_X5_move_57 G o Q XE h bc bs v3 v4 q5 q6 → ∀ (H : Heap) (locs : List Loc) (ls : Array Slot) (cells slots : Nat), cells + bc ≤ C ∧ slots + bs ≤ S → lv_has ls 10 [(0, .ref o), (3, .int v3), (4, .int v4), (5, va_rf q5), (6, va_rf q6)] → zc_H D cA P h s H locs → W p l e (zc_Ro 11 C S) s m args below meth c H locs cells slots (vx_MQ below (zc_Q D cA P (fun v h' => ∃ z : Int32, v = some (.int z) ∧ Q z h')) (zc_X D cA P XE) args s C S P) (F0 m 57 ls []) := by
  have hx := X.1
  have hb := X.2.1
  have hown := X.2.2.2.1
  have hts := X.2.2.2.2.1
  intro h bc bs v3 v4 q5 q6 hF
  intro H locs ls cells slots hB hl hH
  unfold fc_X5_move_57 at hF
  refine lv_iconst (v := 1) hx hb dX5_move_57 (by decide) ?_
  refine lv_goto (tgt := 62) hx hb dX5_move_58 (by decide) ?_
  exact wc_X5_move_62 X hN hT h bc bs v3 v4 q5 q6 1 hF _ _ _ _ _ hB (lv_sub hl [0, 1, 2, 3, 4] rfl) hH
set_option maxHeartbeats 4000000 in
set_option maxRecDepth 100000 in
theorem wc_X5_move {l : Launch} {D : va_G} {cA : Nat → ClassId} {P : Nat → Prop} {G : Nat × Nat × Nat} {o : Nat} {Q : Int32 → ZH → Prop} {XE : String → Nat → ZH → Prop} {h : ZH} {C S : Nat} {v1 : Int32} {v2 : Int32} {v3 : Int32} {v4 : Int32} (hl9 : l.stackTraces = false) (hF : fc_X5_move G o Q XE h C S v1 v2 v3 v4) :
    zc_M l yX5_move (ws_ yX5_move cX5_move 10 (some .int)) 11 D cA P G [.ref o, .int v1, .int v2, .int v3, .int v4] h C S (fun v h' => ∃ z : Int32, v = some (.int z) ∧ Q z h') XE := by
  refine zc_ofF hl9 rfl (by decide +kernel) (Nat.le_of_ble_eq_true rfl) ?_
  intro p e s m args below meth c H locs ls X hN hT hH hl
  have hx := X.1
  have hb := X.2.1
  have hown := X.2.2.2.1
  have hts := X.2.2.2.2.1
  have hl : lv_has ls 10 [(0, .ref o), (1, .int v1), (2, .int v2), (3, .int v3), (4, .int v4)] := hl
  have hB : 0 + C ≤ C ∧ 0 + S ≤ S := ⟨by omega, by omega⟩
  unfold fc_X5_move at hF
  refine lv_aload_n hx hb dX5_move_0 rfl (lv_at hl 0 rfl) ?_
  refine lv_iload_n hx hb dX5_move_1 rfl (lv_at hl 1 rfl) ?_
  obtain ⟨hc, hF⟩ := hF
  refine zc_call (c1 := 0) (s1 := 0) (rest := []) hH hB (Nat.zero_le _) (Nat.zero_le _) (fun hf => zc_rV X hH hc (by decide) rfl (As := [.int v1]) (wc_X5_person X.2.2.2.2.2.2.2.1 hF) (lw_V q937 q938 q939 q91 q940) ⟨rfl, by decide, by decide, rfl⟩ ⟨Nat.le_of_ble_eq_true rfl, Nat.le_of_ble_eq_true rfl, Nat.le_of_ble_eq_true rfl⟩ rfl hl.1 (st0 := [.int v1, .ref o]) rfl (Nat.le_of_ble_eq_true rfl) dX5_move_2 hf) (fun E9 ce9 q9 h9 H locs hx9 => False.elim hx9) (fun v9 h9 H locs hv9 hH hB => ?_)
  obtain ⟨r1, rfl, hF, rfl⟩ := hv9
  refine zq_astore (r := r1) (lv' := [(5, va_rf r1), (0, .ref o), (1, .int v1), (2, .int v2), (3, .int v3), (4, .int v4)]) hx hb rfl dX5_move_5 hl (by decide) rfl (fun ls hl => ?_)
  refine lv_aload_n hx hb dX5_move_7 rfl (lv_at hl 1 rfl) ?_
  refine lv_iload_n hx hb dX5_move_8 rfl (lv_at hl 3 rfl) ?_
  obtain ⟨hc, hF⟩ := hF
  refine zc_call (c1 := 0) (s1 := 0) (rest := []) hH hB (Nat.zero_le _) (Nat.zero_le _) (fun hf => zc_rV X hH hc (by decide) rfl (As := [.int v2]) (wc_X5_grave X.2.2.2.2.2.2.2.1 hF) (lw_V q953 q954 q955 q91 q956) ⟨rfl, by decide, by decide, rfl⟩ ⟨Nat.le_of_ble_eq_true rfl, Nat.le_of_ble_eq_true rfl, Nat.le_of_ble_eq_true rfl⟩ rfl hl.1 (st0 := [.int v2, .ref o]) rfl (Nat.le_of_ble_eq_true rfl) dX5_move_9 hf) (fun E9 ce9 q9 h9 H locs hx9 => False.elim hx9) (fun v9 h9 H locs hv9 hH hB => ?_)
  obtain ⟨r2, rfl, hF, rfl⟩ := hv9
  refine zq_astore (r := r2) (lv' := [(6, va_rf r2), (5, va_rf r1), (0, .ref o), (1, .int v1), (2, .int v2), (3, .int v3), (4, .int v4)]) hx hb rfl dX5_move_12 hl (by decide) (by cases r1 <;> rfl) (fun ls hl => ?_)
  refine zq_aload hx hb dX5_move_14 (lv_at hl 1 rfl) ?_
  refine zq_ifnull (tgt := 61) hx hb dX5_move_16 (by decide) (fun cd => ?_) (fun b3 eb3 => ?_)
  · have hF := hF.1 cd
    exact wc_X5_move_61 X hN hT h C S v3 v4 r1 r2 hF _ _ _ _ _ hB (lv_sub hl [2, 5, 6, 1, 0] rfl) hH
  · have hF := hF.2 b3 eb3
    refine zq_aload hx hb dX5_move_19 (lv_at hl 0 rfl) ?_
    refine zq_ifnull (tgt := 61) hx hb dX5_move_21 (by decide) (fun cd => ?_) (fun b4 eb4 => ?_)
    · have hF := hF.1 cd
      exact wc_X5_move_61 X hN hT h C S v3 v4 r1 r2 hF _ _ _ _ _ hB (lv_sub hl [2, 5, 6, 1, 0] rfl) hH
    · have hF := hF.2 b4 eb4
      refine zq_aload hx hb dX5_move_24 (lv_at hl 0 rfl) ?_
      refine zq_st (st2 := [.ref b4]) (by rw [eb4]; first | done | rfl) ?_
      obtain ⟨hc, hF⟩ := hF
      refine zc_getf X hH hc 6 606 ("ChurchyardBook$Grave", "state", "I", false) (by decide +kernel) (v := .int (zi h 606 b4)) rfl q672 (Or.inl rfl) dX5_move_26 ?_
      refine lv_iconst (v := 4) hx hb dX5_move_29 (by decide) ?_
      refine lv_icmp_eq (tgt := 61) hx hb dX5_move_30 (by decide) (fun cd => ?_) (fun cd => ?_)
      · have hF := hF.1 cd
        exact wc_X5_move_61 X hN hT h C S v3 v4 r1 r2 hF _ _ _ _ _ hB (lv_sub hl [2, 5, 6, 1, 0] rfl) hH
      · have hF := hF.2 cd
        refine zq_aload hx hb dX5_move_33 (lv_at hl 0 rfl) ?_
        refine lv_iload_n hx hb dX5_move_35 rfl (lv_at hl 5 rfl) ?_
        refine zq_st (st2 := [.int v3, .ref b4]) (by rw [eb4]; first | done | rfl) ?_
        refine zc_call (c1 := 0) (s1 := 0) (rest := []) hH hB (Nat.zero_le _) (Nat.zero_le _) (fun hf => rv_isColumn_17 X hH q1155 hF ⟨Nat.le_of_ble_eq_true rfl, Nat.le_of_ble_eq_true rfl, Nat.le_of_ble_eq_true rfl⟩ hl.1 (st0 := [.int v3, .ref b4]) rfl (Nat.le_of_ble_eq_true rfl) dX5_move_36 hf) (fun E9 ce9 q9 h9 H locs hx9 => False.elim hx9) (fun v9 h9 H locs hv9 hH hB => ?_)
        obtain ⟨z5, rfl, hF, rfl⟩ := hv9
        refine lv_if_eq (tgt := 61) hx hb dX5_move_39 (by decide) (fun cd => ?_) (fun cd => ?_)
        · have hF := hF.1 cd
          exact wc_X5_move_61 X hN hT h C S v3 v4 r1 r2 hF _ _ _ _ _ hB (lv_sub hl [2, 5, 6, 1, 0] rfl) hH
        · have hF := hF.2 cd
          refine lv_iload hx hb dX5_move_42 (lv_at hl 6 rfl) ?_
          refine lv_iconst (v := (-1)) hx hb dX5_move_44 (by decide) ?_
          refine lv_icmp_eq (tgt := 57) hx hb dX5_move_45 (by decide) (fun cd => ?_) (fun cd => ?_)
          · have hF := hF.1 cd
            exact wc_X5_move_57 X hN hT h C S v3 v4 r1 r2 hF _ _ _ _ _ hB (lv_sub hl [2, 5, 6, 1, 0] rfl) hH
          · have hF := hF.2 cd
            refine lv_aload_n hx hb dX5_move_48 rfl (lv_at hl 2 rfl) ?_
            refine lv_iload hx hb dX5_move_49 (lv_at hl 6 rfl) ?_
            obtain ⟨hc, hF⟩ := hF
            refine zc_call (c1 := 0) (s1 := 0) (rest := []) hH hB (Nat.zero_le _) (Nat.zero_le _) (fun hf => zc_rV X hH hc (by decide) rfl (As := [.int v4]) (wc_X5_person X.2.2.2.2.2.2.2.1 hF) (lw_V q937 q938 q939 q91 q940) ⟨rfl, by decide, by decide, rfl⟩ ⟨Nat.le_of_ble_eq_true rfl, Nat.le_of_ble_eq_true rfl, Nat.le_of_ble_eq_true rfl⟩ rfl hl.1 (st0 := [.int v4, .ref o]) rfl (Nat.le_of_ble_eq_true rfl) dX5_move_51 hf) (fun E9 ce9 q9 h9 H locs hx9 => False.elim hx9) (fun v9 h9 H locs hv9 hH hB => ?_)
            obtain ⟨r6, rfl, hF, rfl⟩ := hv9
            refine zq_ifnull (tgt := 61) hx hb dX5_move_54 (by decide) (fun cd => ?_) (fun b7 eb7 => ?_)
            · have hF := hF.1 cd
              exact wc_X5_move_61 X hN hT h C S v3 v4 r1 r2 hF _ _ _ _ _ hB (lv_sub hl [2, 5, 6, 1, 0] rfl) hH
            · have hF := hF.2 b7 eb7
              exact wc_X5_move_57 X hN hT h C S v3 v4 r1 r2 hF _ _ _ _ _ hB (lv_sub hl [2, 5, 6, 1, 0] rfl) hH
set_option maxHeartbeats 4000000 in
set_option maxRecDepth 100000 in
theorem wc_X9_hasRest_2 {p : Program} {l : Launch} {e : Env} {s : State} {m : MethodId} {args : Array Value} {below : List Frame} {meth : Method} {c : Code} {D : va_G} {cA : Nat → ClassId} {P : Nat → Prop} {G : Nat × Nat × Nat} {C S : Nat} {o : Nat} {Q : Int32 → Prop} {h0 : ZH} (X : zc_Cx p l s m args meth c cX9_hasRest 3 (some .boolean) "ChurchyardBook$Grave" D cA P G) (hN : meth.name = "hasRest") (hT : c.exceptionTable.toList = tableOf []) :
    ∀ (n : Nat) (h : ZH) (v1 : Int32) (v2 : Int32), fc_X9_hasRest_2 G o Q n h v1 v2 → ∀ (H : Heap) (locs : List Loc) (ls : Array Slot) (cells slots : Nat), cells + 0 ≤ C ∧ slots + 0 ≤ S → h0 = h → lv_has ls 3 [(0, .ref o), (1, .int v1), (2, .int v2)] → zc_H D cA P h s H locs → W p l e (zc_Ro 4 C S) s m args below meth c H locs cells slots (vx_MQ below (zc_Q D cA P (fun v h' => ∃ z : Int32, v = some (.int z) ∧ Q z ∧ h0 = h')) (zc_X D cA P zc_no) args s C S P) (F0 m 2 ls []) := by
  have hx := X.1
  have hb := X.2.1
  have hown := X.2.2.2.1
  have hts := X.2.2.2.2.1
  intro n
  induction n with
  | zero =>
    intro h v1 v2 hF
    exact False.elim hF
  | succ n ih =>
    intro h v1 v2 hF
    intro H locs ls cells slots hB eh hl hH
    unfold fc_X9_hasRest_2 at hF
    refine lv_iload_n hx hb dX9_hasRest_2 rfl (lv_at hl 2 rfl) ?_
    refine lv_aload_n hx hb dX9_hasRest_3 rfl (lv_at hl 0 rfl) ?_
    obtain ⟨hc, hF⟩ := hF
    refine zc_getf X hH hc 15 615 ("ChurchyardBook$Grave", "lying", "Ljava/util/ArrayList;", true) (by decide +kernel) (v := va_rf (zr h 615 o)) rfl q695 (Or.inl rfl) dX9_hasRest_4 ?_
    obtain ⟨b1, eb1, hF⟩ := hF
    refine zq_st (st2 := [.ref b1, .int v2]) (by rw [eb1]; first | done | rfl) ?_
    obtain ⟨hc, hF⟩ := hF
    refine zc_call (c1 := 0) (s1 := 0) (rest := [.int v2]) hH hB (Nat.zero_le _) (Nat.zero_le _) (fun hf => zc_rV X hH hc (by decide) rfl (As := []) (wc_J2_size X.2.2.2.2.2.2.2.1 hF) (lw_V q1088 q350 q351 q94 q352) ⟨rfl, by decide, by decide, rfl⟩ ⟨Nat.le_of_ble_eq_true rfl, Nat.le_of_ble_eq_true rfl, Nat.le_of_ble_eq_true rfl⟩ rfl hl.1 (st0 := [.ref b1, .int v2]) rfl (Nat.le_of_ble_eq_true rfl) dX9_hasRest_7 hf) (fun E9 ce9 q9 h9 H locs hx9 => False.elim hx9) (fun v9 h9 H locs hv9 hH hB => ?_)
    obtain ⟨z2, rfl, hF, rfl⟩ := hv9
    refine lv_icmp_ge (tgt := 39) hx hb dX9_hasRest_10 (by decide) (fun cd => ?_) (fun cd => ?_)
    · have hF := hF.1 cd
      refine lv_iconst (v := 0) hx hb dX9_hasRest_39 (by decide) ?_
      exact zc_iret X hH hB rfl rfl ⟨_, rfl, hF, eh⟩ dX9_hasRest_40
    · have hF := hF.2 cd
      refine lv_aload_n hx hb dX9_hasRest_13 rfl (lv_at hl 0 rfl) ?_
      obtain ⟨hc, hF⟩ := hF
      refine zc_getf X hH hc 15 615 ("ChurchyardBook$Grave", "lying", "Ljava/util/ArrayList;", true) (by decide +kernel) (v := va_rf (zr h 615 o)) rfl q695 (Or.inl rfl) dX9_hasRest_14 ?_
      refine lv_iload_n hx hb dX9_hasRest_17 rfl (lv_at hl 2 rfl) ?_
      refine zq_st (st2 := [.int v2, .ref b1]) (by rw [eb1]; first | done | rfl) ?_
      obtain ⟨hc, hF⟩ := hF
      refine zc_call (c1 := 0) (s1 := 0) (rest := []) hH hB (Nat.zero_le _) (Nat.zero_le _) (fun hf => zc_rV X hH hc (by decide) rfl (As := [.int v2]) (wc_J2_get X.2.2.2.2.2.2.2.1 hF) (lw_V q1089 q476 q477 q94 q478) ⟨rfl, by decide, by decide, rfl⟩ ⟨Nat.le_of_ble_eq_true rfl, Nat.le_of_ble_eq_true rfl, Nat.le_of_ble_eq_true rfl⟩ rfl hl.1 (st0 := [.int v2, .ref b1]) rfl (Nat.le_of_ble_eq_true rfl) dX9_hasRest_18 hf) (fun E9 ce9 q9 h9 H locs hx9 => False.elim hx9) (fun v9 h9 H locs hv9 hH hB => ?_)
      obtain ⟨r3, rfl, hF, rfl⟩ := hv9
      obtain ⟨hR, hF⟩ := hF
      refine zc_castY X hH (r := r3) [14] "ChurchyardBook$Person" hR (by decide) (by decide +kernel) q1090 dX9_hasRest_21 ?_
      refine lv_iload_n hx hb dX9_hasRest_24 rfl (lv_at hl 1 rfl) ?_
      obtain ⟨b4, eb4, hF⟩ := hF
      refine zq_st (st2 := [.int v1, .ref b4]) (by rw [eb4]; first | done | rfl) ?_
      obtain ⟨hc, hF⟩ := hF
      refine zc_call (c1 := 0) (s1 := 0) (rest := []) hH hB (Nat.zero_le _) (Nat.zero_le _) (fun hf => zc_rV X hH hc (by decide) rfl (As := [.int v1]) (wc_X16_rests X.2.2.2.2.2.2.2.1 hF) (lw_V q1221 q1222 q1223 q121 q1224) ⟨rfl, by decide, by decide, rfl⟩ ⟨Nat.le_of_ble_eq_true rfl, Nat.le_of_ble_eq_true rfl, Nat.le_of_ble_eq_true rfl⟩ rfl hl.1 (st0 := [.int v1, .ref b4]) rfl (Nat.le_of_ble_eq_true rfl) dX9_hasRest_25 hf) (fun E9 ce9 q9 h9 H locs hx9 => False.elim hx9) (fun v9 h9 H locs hv9 hH hB => ?_)
      obtain ⟨z5, rfl, hF, rfl⟩ := hv9
      refine lv_if_eq (tgt := 33) hx hb dX9_hasRest_28 (by decide) (fun cd => ?_) (fun cd => ?_)
      · have hF := hF.1 cd
        obtain ⟨x6, ex6⟩ : ∃ z : Int32, z = v2 + 1 := ⟨_, rfl⟩
        have hF := hF x6 ex6
        refine lv_iinc (v := x6) (lv' := [(2, .int x6), (0, .ref o), (1, .int v1)]) hx hb dX9_hasRest_33 hl (k := 2) rfl (by rw [ex6]; rfl) (by decide) rfl (fun ls hl => ?_)
        refine lv_goto (tgt := 2) hx hb dX9_hasRest_36 (by decide) ?_
        exact ih h v1 x6 hF _ _ _ _ _ hB eh (lv_sub hl [1, 2, 0] rfl) hH
      · have hF := hF.2 cd
        refine lv_iconst (v := 1) hx hb dX9_hasRest_31 (by decide) ?_
        exact zc_iret X hH hB rfl rfl ⟨_, rfl, hF, eh⟩ dX9_hasRest_32
set_option maxHeartbeats 4000000 in
set_option maxRecDepth 100000 in
theorem wc_X9_hasRest {l : Launch} {D : va_G} {cA : Nat → ClassId} {P : Nat → Prop} {G : Nat × Nat × Nat} {o : Nat} {Q : Int32 → Prop} {h : ZH} {C S : Nat} {v1 : Int32} (hl9 : l.stackTraces = false) (hF : fc_X9_hasRest G o Q h v1) :
    zc_M l yX9_hasRest (ws_ yX9_hasRest cX9_hasRest 3 (some .boolean)) 4 D cA P G [.ref o, .int v1] h C S (fun v h' => ∃ z : Int32, v = some (.int z) ∧ Q z ∧ h = h') zc_no := by
  refine zc_ofF hl9 rfl (by decide +kernel) (Nat.le_of_ble_eq_true rfl) ?_
  intro p e s m args below meth c H locs ls X hN hT hH hl
  have hx := X.1
  have hb := X.2.1
  have hown := X.2.2.2.1
  have hts := X.2.2.2.2.1
  have hl : lv_has ls 3 [(0, .ref o), (1, .int v1)] := hl
  have hB : 0 + 0 ≤ C ∧ 0 + 0 ≤ S := ⟨by omega, by omega⟩
  have eh : h = h := rfl
  unfold fc_X9_hasRest at hF
  refine lv_iconst (v := 0) hx hb dX9_hasRest_0 (by decide) ?_
  refine lv_istore_n (lv' := [(2, .int 0), (0, .ref o), (1, .int v1)]) hx hb dX9_hasRest_1 rfl hl (by decide) rfl (fun ls hl => ?_)
  obtain ⟨n9, hF⟩ := hF
  exact wc_X9_hasRest_2 X hN hT n9 h v1 0 hF _ _ _ _ _ hB eh (lv_sub hl [1, 2, 0] rfl) hH
set_option maxHeartbeats 1000000 in
theorem rv_hasRest_22 {p : Program} {l : Launch} {e : Env} {R : Room} {s : State} {m : MethodId} {args : Array Value} {below : List Frame} {meth : Method} {c : Code} {H : Heap} {locs : List Loc} {cells slots : Nat} {cc : ByteArray} {nL pc : Nat} {ret : Option FieldType} {own : String} {ls : Array Slot} {rest : List Value} {D : va_G} {cA : Nat → ClassId} {P : Nat → Prop} {G : Nat × Nat × Nat} {h : ZH} {C S a idx : Nat} {Q : Int32 → Prop} {v1 : Int32} (X : zc_Cx p l s m args meth c cc nL ret own D cA P G) (hH : zc_H D cA P h s H locs) (hlk : Cond.methodLink own idx ⟨"ChurchyardBook$Grave", "hasRest", "(I)Z"⟩ ∈ lw_all) (hF : fv_hasRest_22 G a Q h v1) (hR : zc_rm R 4 11) (hsize : ls.size = nL) {st0 : List Value} (hst : st0 = ([.int v1] : List Value).reverse ++ .ref a :: rest) (hcat : (rest.map fun v => v.category).sum ≤ 8) (hdg : decode cc pc = .ok (.invokevirtual idx, 3)) (hf : cells + C ≤ R.cells ∧ slots + S ≤ R.slots) :
    vx_Run p l e R s m args below meth c H locs cells slots C S (F0 m pc ls st0) rest (zc_Q D cA P (fun v h' => ∃ z : Int32, v = some (.int z) ∧ Q z ∧ h = h') (Value.ref a :: [.int v1]).toArray) (zc_X D cA P zc_no) P := by
  unfold fv_hasRest_22 at hF
  have hR9 := hR
  obtain ⟨hc, hF⟩ := hF
  simp only [List.mem_cons, List.not_mem_nil, or_false] at hc
  rcases hc with hc | hc | hc | hc | hc | hc
  · have hF := hF (by rw [hc]; decide)
    exact zc_rU X hH hc (by decide) rfl (owner := "ChurchyardBook$Grave") (x := ⟨"ChurchyardBook$Grave", "hasRest", "(I)Z"⟩) (As := [.int v1]) (wc_X9_hasRest X.2.2.2.2.2.2.2.1 hF) (lw_meth q1370) (X.2.2.2.2.1 _ hlk) (X.2.2.2.2.1 _ q1363) (zc_declC X q1362 q1370) (X.2.2.2.2.1 _ q1368) q1362 q114 ⟨by decide, by decide, rfl⟩ (zc_rm_le hR9 (by decide) (by decide)) rfl hsize hst hcat hdg hf
  · have hF := hF (by rw [hc]; decide)
    exact zc_rU X hH hc (by decide) rfl (owner := "ChurchyardBook$Grave") (x := ⟨"ChurchyardBook$Grave", "hasRest", "(I)Z"⟩) (As := [.int v1]) (wc_X9_hasRest X.2.2.2.2.2.2.2.1 hF) (lw_meth q1370) (X.2.2.2.2.1 _ hlk) (X.2.2.2.2.1 _ q1363) (zc_declC X q1362 q1370) (X.2.2.2.2.1 _ q1365) q1362 q114 ⟨by decide, by decide, rfl⟩ (zc_rm_le hR9 (by decide) (by decide)) rfl hsize hst hcat hdg hf
  · have hF := hF (by rw [hc]; decide)
    exact zc_rU X hH hc (by decide) rfl (owner := "ChurchyardBook$Grave") (x := ⟨"ChurchyardBook$Grave", "hasRest", "(I)Z"⟩) (As := [.int v1]) (wc_X9_hasRest X.2.2.2.2.2.2.2.1 hF) (lw_meth q1370) (X.2.2.2.2.1 _ hlk) (X.2.2.2.2.1 _ q1363) (zc_declC X q1362 q1370) (X.2.2.2.2.1 _ q1366) q1362 q114 ⟨by decide, by decide, rfl⟩ (zc_rm_le hR9 (by decide) (by decide)) rfl hsize hst hcat hdg hf
  · have hF := hF (by rw [hc]; decide)
    exact zc_rU X hH hc (by decide) rfl (owner := "ChurchyardBook$Grave") (x := ⟨"ChurchyardBook$Grave", "hasRest", "(I)Z"⟩) (As := [.int v1]) (wc_X9_hasRest X.2.2.2.2.2.2.2.1 hF) (lw_meth q1370) (X.2.2.2.2.1 _ hlk) (X.2.2.2.2.1 _ q1363) (zc_declC X q1362 q1370) (X.2.2.2.2.1 _ q1369) q1362 q114 ⟨by decide, by decide, rfl⟩ (zc_rm_le hR9 (by decide) (by decide)) rfl hsize hst hcat hdg hf
  · have hF := hF (by rw [hc]; decide)
    exact zc_rU X hH hc (by decide) rfl (owner := "ChurchyardBook$Grave") (x := ⟨"ChurchyardBook$Grave", "hasRest", "(I)Z"⟩) (As := [.int v1]) (wc_X9_hasRest X.2.2.2.2.2.2.2.1 hF) (lw_meth q1370) (X.2.2.2.2.1 _ hlk) (X.2.2.2.2.1 _ q1363) (zc_declC X q1362 q1370) (X.2.2.2.2.1 _ q1367) q1362 q114 ⟨by decide, by decide, rfl⟩ (zc_rm_le hR9 (by decide) (by decide)) rfl hsize hst hcat hdg hf
  · have hF := hF (by rw [hc]; decide)
    exact zc_rU X hH hc (by decide) rfl (owner := "ChurchyardBook$Grave") (x := ⟨"ChurchyardBook$Grave", "hasRest", "(I)Z"⟩) (As := [.int v1]) (wc_X9_hasRest X.2.2.2.2.2.2.2.1 hF) (lw_meth q1370) (X.2.2.2.2.1 _ hlk) (X.2.2.2.2.1 _ q1363) (zc_declC X q1362 q1370) (X.2.2.2.2.1 _ q1364) q1362 q114 ⟨by decide, by decide, rfl⟩ (zc_rm_le hR9 (by decide) (by decide)) rfl hsize hst hcat hdg hf
set_option maxHeartbeats 4000000 in
set_option maxRecDepth 100000 in
theorem wc_X10_kind {l : Launch} {D : va_G} {cA : Nat → ClassId} {P : Nat → Prop} {G : Nat × Nat × Nat} {o : Nat} {Q : Int32 → Prop} {h : ZH} {C S : Nat} (hl9 : l.stackTraces = false) (hF : fc_X10_kind G o Q h) :
    zc_M l yX10_kind (ws_ yX10_kind cX10_kind 1 (some .int)) 1 D cA P G [.ref o] h C S (fun v h' => ∃ z : Int32, v = some (.int z) ∧ Q z ∧ h = h') zc_no := by
  refine zc_ofF hl9 rfl (by decide +kernel) (Nat.le_of_ble_eq_true rfl) ?_
  intro p e s m args below meth c H locs ls X hN hT hH hl
  have hx := X.1
  have hb := X.2.1
  have hown := X.2.2.2.1
  have hts := X.2.2.2.2.1
  have hl : lv_has ls 1 [(0, .ref o)] := hl
  have hB : 0 + 0 ≤ C ∧ 0 + 0 ≤ S := ⟨by omega, by omega⟩
  have eh : h = h := rfl
  unfold fc_X10_kind at hF
  refine lv_iconst (v := 1) hx hb dX10_kind_0 (by decide) ?_
  exact zc_iret X hH hB rfl rfl ⟨_, rfl, hF, eh⟩ dX10_kind_1
set_option maxHeartbeats 4000000 in
set_option maxRecDepth 100000 in
theorem wc_X11_kind {l : Launch} {D : va_G} {cA : Nat → ClassId} {P : Nat → Prop} {G : Nat × Nat × Nat} {o : Nat} {Q : Int32 → Prop} {h : ZH} {C S : Nat} (hl9 : l.stackTraces = false) (hF : fc_X11_kind G o Q h) :
    zc_M l yX11_kind (ws_ yX11_kind cX11_kind 1 (some .int)) 1 D cA P G [.ref o] h C S (fun v h' => ∃ z : Int32, v = some (.int z) ∧ Q z ∧ h = h') zc_no := by
  refine zc_ofF hl9 rfl (by decide +kernel) (Nat.le_of_ble_eq_true rfl) ?_
  intro p e s m args below meth c H locs ls X hN hT hH hl
  have hx := X.1
  have hb := X.2.1
  have hown := X.2.2.2.1
  have hts := X.2.2.2.2.1
  have hl : lv_has ls 1 [(0, .ref o)] := hl
  have hB : 0 + 0 ≤ C ∧ 0 + 0 ≤ S := ⟨by omega, by omega⟩
  have eh : h = h := rfl
  unfold fc_X11_kind at hF
  refine lv_iconst (v := 2) hx hb dX11_kind_0 (by decide) ?_
  exact zc_iret X hH hB rfl rfl ⟨_, rfl, hF, eh⟩ dX11_kind_1
set_option maxHeartbeats 4000000 in
set_option maxRecDepth 100000 in
theorem wc_X12_kind {l : Launch} {D : va_G} {cA : Nat → ClassId} {P : Nat → Prop} {G : Nat × Nat × Nat} {o : Nat} {Q : Int32 → Prop} {h : ZH} {C S : Nat} (hl9 : l.stackTraces = false) (hF : fc_X12_kind G o Q h) :
    zc_M l yX12_kind (ws_ yX12_kind cX12_kind 1 (some .int)) 1 D cA P G [.ref o] h C S (fun v h' => ∃ z : Int32, v = some (.int z) ∧ Q z ∧ h = h') zc_no := by
  refine zc_ofF hl9 rfl (by decide +kernel) (Nat.le_of_ble_eq_true rfl) ?_
  intro p e s m args below meth c H locs ls X hN hT hH hl
  have hx := X.1
  have hb := X.2.1
  have hown := X.2.2.2.1
  have hts := X.2.2.2.2.1
  have hl : lv_has ls 1 [(0, .ref o)] := hl
  have hB : 0 + 0 ≤ C ∧ 0 + 0 ≤ S := ⟨by omega, by omega⟩
  have eh : h = h := rfl
  unfold fc_X12_kind at hF
  refine lv_iconst (v := 3) hx hb dX12_kind_0 (by decide) ?_
  exact zc_iret X hH hB rfl rfl ⟨_, rfl, hF, eh⟩ dX12_kind_1
set_option maxHeartbeats 4000000 in
set_option maxRecDepth 100000 in
theorem wc_X13_kind {l : Launch} {D : va_G} {cA : Nat → ClassId} {P : Nat → Prop} {G : Nat × Nat × Nat} {o : Nat} {Q : Int32 → Prop} {h : ZH} {C S : Nat} (hl9 : l.stackTraces = false) (hF : fc_X13_kind G o Q h) :
    zc_M l yX13_kind (ws_ yX13_kind cX13_kind 1 (some .int)) 1 D cA P G [.ref o] h C S (fun v h' => ∃ z : Int32, v = some (.int z) ∧ Q z ∧ h = h') zc_no := by
  refine zc_ofF hl9 rfl (by decide +kernel) (Nat.le_of_ble_eq_true rfl) ?_
  intro p e s m args below meth c H locs ls X hN hT hH hl
  have hx := X.1
  have hb := X.2.1
  have hown := X.2.2.2.1
  have hts := X.2.2.2.2.1
  have hl : lv_has ls 1 [(0, .ref o)] := hl
  have hB : 0 + 0 ≤ C ∧ 0 + 0 ≤ S := ⟨by omega, by omega⟩
  have eh : h = h := rfl
  unfold fc_X13_kind at hF
  refine lv_iconst (v := 4) hx hb dX13_kind_0 (by decide) ?_
  exact zc_iret X hH hB rfl rfl ⟨_, rfl, hF, eh⟩ dX13_kind_1
set_option maxHeartbeats 4000000 in
set_option maxRecDepth 100000 in
theorem wc_X14_kind {l : Launch} {D : va_G} {cA : Nat → ClassId} {P : Nat → Prop} {G : Nat × Nat × Nat} {o : Nat} {Q : Int32 → Prop} {h : ZH} {C S : Nat} (hl9 : l.stackTraces = false) (hF : fc_X14_kind G o Q h) :
    zc_M l yX14_kind (ws_ yX14_kind cX14_kind 1 (some .int)) 1 D cA P G [.ref o] h C S (fun v h' => ∃ z : Int32, v = some (.int z) ∧ Q z ∧ h = h') zc_no := by
  refine zc_ofF hl9 rfl (by decide +kernel) (Nat.le_of_ble_eq_true rfl) ?_
  intro p e s m args below meth c H locs ls X hN hT hH hl
  have hx := X.1
  have hb := X.2.1
  have hown := X.2.2.2.1
  have hts := X.2.2.2.2.1
  have hl : lv_has ls 1 [(0, .ref o)] := hl
  have hB : 0 + 0 ≤ C ∧ 0 + 0 ≤ S := ⟨by omega, by omega⟩
  have eh : h = h := rfl
  unfold fc_X14_kind at hF
  refine lv_iconst (v := 5) hx hb dX14_kind_0 (by decide) ?_
  exact zc_iret X hH hB rfl rfl ⟨_, rfl, hF, eh⟩ dX14_kind_1
set_option maxHeartbeats 4000000 in
set_option maxRecDepth 100000 in
theorem wc_X15_kind {l : Launch} {D : va_G} {cA : Nat → ClassId} {P : Nat → Prop} {G : Nat × Nat × Nat} {o : Nat} {Q : Int32 → Prop} {h : ZH} {C S : Nat} (hl9 : l.stackTraces = false) (hF : fc_X15_kind G o Q h) :
    zc_M l yX15_kind (ws_ yX15_kind cX15_kind 1 (some .int)) 1 D cA P G [.ref o] h C S (fun v h' => ∃ z : Int32, v = some (.int z) ∧ Q z ∧ h = h') zc_no := by
  refine zc_ofF hl9 rfl (by decide +kernel) (Nat.le_of_ble_eq_true rfl) ?_
  intro p e s m args below meth c H locs ls X hN hT hH hl
  have hx := X.1
  have hb := X.2.1
  have hown := X.2.2.2.1
  have hts := X.2.2.2.2.1
  have hl : lv_has ls 1 [(0, .ref o)] := hl
  have hB : 0 + 0 ≤ C ∧ 0 + 0 ≤ S := ⟨by omega, by omega⟩
  have eh : h = h := rfl
  unfold fc_X15_kind at hF
  refine lv_bipush (v := 6) hx hb dX15_kind_0 (by decide) ?_
  exact zc_iret X hH hB rfl rfl ⟨_, rfl, hF, eh⟩ dX15_kind_2
set_option maxHeartbeats 1000000 in
theorem rv_kind_21 {p : Program} {l : Launch} {e : Env} {R : Room} {s : State} {m : MethodId} {args : Array Value} {below : List Frame} {meth : Method} {c : Code} {H : Heap} {locs : List Loc} {cells slots : Nat} {cc : ByteArray} {nL pc : Nat} {ret : Option FieldType} {own : String} {ls : Array Slot} {rest : List Value} {D : va_G} {cA : Nat → ClassId} {P : Nat → Prop} {G : Nat × Nat × Nat} {h : ZH} {C S a idx : Nat} {Q : Int32 → Prop} (X : zc_Cx p l s m args meth c cc nL ret own D cA P G) (hH : zc_H D cA P h s H locs) (hlk : Cond.methodLink own idx ⟨"ChurchyardBook$Grave", "kind", "()I"⟩ ∈ lw_all) (hF : fv_kind_21 G a Q h) (hR : zc_rm R 1 11) (hsize : ls.size = nL) {st0 : List Value} (hst : st0 = ([] : List Value).reverse ++ .ref a :: rest) (hcat : (rest.map fun v => v.category).sum ≤ 8) (hdg : decode cc pc = .ok (.invokevirtual idx, 3)) (hf : cells + C ≤ R.cells ∧ slots + S ≤ R.slots) :
    vx_Run p l e R s m args below meth c H locs cells slots C S (F0 m pc ls st0) rest (zc_Q D cA P (fun v h' => ∃ z : Int32, v = some (.int z) ∧ Q z ∧ h = h') (Value.ref a :: []).toArray) (zc_X D cA P zc_no) P := by
  unfold fv_kind_21 at hF
  have hR9 := hR
  obtain ⟨hc, hF⟩ := hF
  simp only [List.mem_cons, List.not_mem_nil, or_false] at hc
  rcases hc with hc | hc | hc | hc | hc | hc
  · have hF := hF.1 (by rw [hc]; decide)
    exact zc_rU X hH hc (by decide) rfl (owner := "ChurchyardBook$Grave") (x := ⟨"ChurchyardBook$Grave", "kind", "()I"⟩) (As := []) (wc_X10_kind X.2.2.2.2.2.2.2.1 hF) (lw_meth q1388) (X.2.2.2.2.1 _ hlk) (X.2.2.2.2.1 _ q1373) (zc_declA X (by decide +kernel)) (X.2.2.2.2.1 _ q1386) q1387 q115 ⟨by decide, by decide, rfl⟩ (zc_rm_le hR9 (by decide) (by decide)) rfl hsize hst hcat hdg hf
  · have hF := hF.2.1 (by rw [hc]; decide)
    exact zc_rU X hH hc (by decide) rfl (owner := "ChurchyardBook$Grave") (x := ⟨"ChurchyardBook$Grave", "kind", "()I"⟩) (As := []) (wc_X11_kind X.2.2.2.2.2.2.2.1 hF) (lw_meth q1379) (X.2.2.2.2.1 _ hlk) (X.2.2.2.2.1 _ q1373) (zc_declA X (by decide +kernel)) (X.2.2.2.2.1 _ q1377) q1378 q116 ⟨by decide, by decide, rfl⟩ (zc_rm_le hR9 (by decide) (by decide)) rfl hsize hst hcat hdg hf
  · have hF := hF.2.2.1 (by rw [hc]; decide)
    exact zc_rU X hH hc (by decide) rfl (owner := "ChurchyardBook$Grave") (x := ⟨"ChurchyardBook$Grave", "kind", "()I"⟩) (As := []) (wc_X12_kind X.2.2.2.2.2.2.2.1 hF) (lw_meth q1382) (X.2.2.2.2.1 _ hlk) (X.2.2.2.2.1 _ q1373) (zc_declA X (by decide +kernel)) (X.2.2.2.2.1 _ q1380) q1381 q117 ⟨by decide, by decide, rfl⟩ (zc_rm_le hR9 (by decide) (by decide)) rfl hsize hst hcat hdg hf
  · have hF := hF.2.2.2.1 (by rw [hc]; decide)
    exact zc_rU X hH hc (by decide) rfl (owner := "ChurchyardBook$Grave") (x := ⟨"ChurchyardBook$Grave", "kind", "()I"⟩) (As := []) (wc_X13_kind X.2.2.2.2.2.2.2.1 hF) (lw_meth q1391) (X.2.2.2.2.1 _ hlk) (X.2.2.2.2.1 _ q1373) (zc_declA X (by decide +kernel)) (X.2.2.2.2.1 _ q1389) q1390 q118 ⟨by decide, by decide, rfl⟩ (zc_rm_le hR9 (by decide) (by decide)) rfl hsize hst hcat hdg hf
  · have hF := hF.2.2.2.2.1 (by rw [hc]; decide)
    exact zc_rU X hH hc (by decide) rfl (owner := "ChurchyardBook$Grave") (x := ⟨"ChurchyardBook$Grave", "kind", "()I"⟩) (As := []) (wc_X14_kind X.2.2.2.2.2.2.2.1 hF) (lw_meth q1385) (X.2.2.2.2.1 _ hlk) (X.2.2.2.2.1 _ q1373) (zc_declA X (by decide +kernel)) (X.2.2.2.2.1 _ q1383) q1384 q119 ⟨by decide, by decide, rfl⟩ (zc_rm_le hR9 (by decide) (by decide)) rfl hsize hst hcat hdg hf
  · have hF := hF.2.2.2.2.2 (by rw [hc]; decide)
    exact zc_rU X hH hc (by decide) rfl (owner := "ChurchyardBook$Grave") (x := ⟨"ChurchyardBook$Grave", "kind", "()I"⟩) (As := []) (wc_X15_kind X.2.2.2.2.2.2.2.1 hF) (lw_meth q1376) (X.2.2.2.2.1 _ hlk) (X.2.2.2.2.1 _ q1373) (zc_declA X (by decide +kernel)) (X.2.2.2.2.1 _ q1374) q1375 q120 ⟨by decide, by decide, rfl⟩ (zc_rm_le hR9 (by decide) (by decide)) rfl hsize hst hcat hdg hf
set_option maxHeartbeats 4000000 in
set_option maxRecDepth 100000 in
theorem wc_X5_isMeadow {l : Launch} {D : va_G} {cA : Nat → ClassId} {P : Nat → Prop} {G : Nat × Nat × Nat} {o : Nat} {Q : Int32 → Prop} {h : ZH} {C S : Nat} {q1 : Option Nat} {v2 : Int32} (hl9 : l.stackTraces = false) (hF : fc_X5_isMeadow G o Q h q1 v2) :
    zc_M l yX5_isMeadow (ws_ yX5_isMeadow cX5_isMeadow 3 (some .boolean)) 2 D cA P G [.ref o, va_rf q1, .int v2] h C S (fun v h' => ∃ z : Int32, v = some (.int z) ∧ Q z ∧ h = h') zc_no := by
  refine zc_ofF hl9 rfl (by decide +kernel) (zc_slle (by simp [zc_k1, zc_kI, zc_kR]) (Nat.le_of_ble_eq_true rfl)) ?_
  intro p e s m args below meth c H locs ls X hN hT hH hl
  have hx := X.1
  have hb := X.2.1
  have hown := X.2.2.2.1
  have hts := X.2.2.2.2.1
  have hl : lv_has ls 3 [(0, .ref o), (1, va_rf q1), (2, .int v2)] := by
    have h9 := hl
    rw [zc_ags _ (by simp [zc_k1, zc_kI, zc_kR]) 0] at h9
    exact h9
  have hB : 0 + 0 ≤ C ∧ 0 + 0 ≤ S := ⟨by omega, by omega⟩
  have eh : h = h := rfl
  unfold fc_X5_isMeadow at hF
  refine zq_aload_n hx hb dX5_isMeadow_0 rfl (lv_at hl 1 rfl) ?_
  obtain ⟨b1, eb1, hF⟩ := hF
  refine zq_st (st2 := [.ref b1]) (by rw [eb1]; first | done | rfl) ?_
  obtain ⟨hc, hF⟩ := hF
  refine zc_getf X hH hc 1 601 ("ChurchyardBook$Grave", "field", "I", true) (by decide +kernel) (v := .int (zi h 601 b1)) rfl q659 (Or.inl rfl) dX5_isMeadow_1 ?_
  refine lv_iload_n hx hb dX5_isMeadow_4 rfl (lv_at hl 2 rfl) ?_
  refine lv_icmp_ne (tgt := 20) hx hb dX5_isMeadow_5 (by decide) (fun cd => ?_) (fun cd => ?_)
  · have hF := hF.1 cd
    refine lv_iconst (v := 0) hx hb dX5_isMeadow_20 (by decide) ?_
    exact zc_iret X hH hB rfl rfl ⟨_, rfl, hF, eh⟩ dX5_isMeadow_21
  · have hF := hF.2 cd
    refine zq_aload_n hx hb dX5_isMeadow_8 rfl (lv_at hl 1 rfl) ?_
    refine zq_st (st2 := [.ref b1]) (by rw [eb1]; first | done | rfl) ?_
    refine zc_call (c1 := 0) (s1 := 0) (rest := []) hH hB (Nat.zero_le _) (Nat.zero_le _) (fun hf => rv_kind_21 X hH q1371 hF ⟨Nat.le_of_ble_eq_true rfl, Nat.le_of_ble_eq_true rfl, Nat.le_of_ble_eq_true rfl⟩ hl.1 (st0 := [.ref b1]) rfl (Nat.le_of_ble_eq_true rfl) dX5_isMeadow_9 hf) (fun E9 ce9 q9 h9 H locs hx9 => False.elim hx9) (fun v9 h9 H locs hv9 hH hB => ?_)
    obtain ⟨z2, rfl, hF, rfl⟩ := hv9
    refine lv_iconst (v := 5) hx hb dX5_isMeadow_12 (by decide) ?_
    refine lv_icmp_ne (tgt := 20) hx hb dX5_isMeadow_13 (by decide) (fun cd => ?_) (fun cd => ?_)
    · have hF := hF.1 cd
      refine lv_iconst (v := 0) hx hb dX5_isMeadow_20 (by decide) ?_
      exact zc_iret X hH hB rfl rfl ⟨_, rfl, hF, eh⟩ dX5_isMeadow_21
    · have hF := hF.2 cd
      refine lv_iconst (v := 1) hx hb dX5_isMeadow_16 (by decide) ?_
      refine lv_goto (tgt := 21) hx hb dX5_isMeadow_17 (by decide) ?_
      exact zc_iret X hH hB rfl rfl ⟨_, rfl, hF, eh⟩ dX5_isMeadow_21
set_option maxHeartbeats 4000000 in
set_option maxRecDepth 100000 in
theorem wc_X5_urn_72 {p : Program} {l : Launch} {e : Env} {s : State} {m : MethodId} {args : Array Value} {below : List Frame} {meth : Method} {c : Code} {D : va_G} {cA : Nat → ClassId} {P : Nat → Prop} {G : Nat × Nat × Nat} {C S : Nat} {o : Nat} {Q : ZH → Prop} {K2 : ZH → Nat → Nat → Option Nat → Option Nat → Int32 → Prop} (X : zc_Cx p l s m args meth c cX5_urn 5 none "ChurchyardBook$Book" D cA P G) (hN : meth.name = "urn") (hT : c.exceptionTable.toList = tableOf []) (hK2 : ∀ (h : ZH) (bc bs : Nat) (q1 : Option Nat) (q2 : Option Nat) (v3 : Int32), K2 h bc bs q1 q2 v3 → ∀ (H : Heap) (locs : List Loc) (ls : Array Slot) (cells slots : Nat), cells + bc ≤ C ∧ slots + bs ≤ S → lv_has ls 5 [(0, .ref o), (1, va_rf q1), (2, va_rf q2), (3, .int v3)] → zc_H D cA P h s H locs → W p l e (zc_Ro 10 C S) s m args below meth c H locs cells slots (vx_MQ below (zc_Q D cA P (fun v h' => v = none ∧ Q h')) (zc_X D cA P zc_no) args s C S P) (F0 m 2 ls [])) :
    ∀ (h : ZH) (bc bs : Nat) (q1 : Option Nat) (q2 : Option Nat) (v3 : Int32), fc_X5_urn_72 G o Q K2 h bc bs q1 q2 v3 → ∀ (H : Heap) (locs : List Loc) (ls : Array Slot) (cells slots : Nat), cells + bc ≤ C ∧ slots + bs ≤ S → lv_has ls 5 [(0, .ref o), (1, va_rf q1), (2, va_rf q2), (3, .int v3)] → zc_H D cA P h s H locs → W p l e (zc_Ro 10 C S) s m args below meth c H locs cells slots (vx_MQ below (zc_Q D cA P (fun v h' => v = none ∧ Q h')) (zc_X D cA P zc_no) args s C S P) (F0 m 72 ls []) := by
  have hx := X.1
  have hb := X.2.1
  have hown := X.2.2.2.1
  have hts := X.2.2.2.2.1
  intro h bc bs q1 q2 v3 hF
  intro H locs ls cells slots hB hl hH
  unfold fc_X5_urn_72 at hF
  obtain ⟨x1, ex1⟩ : ∃ z : Int32, z = v3 + 1 := ⟨_, rfl⟩
  have hF := hF x1 ex1
  refine lv_iinc (v := x1) (lv' := [(3, .int x1), (0, .ref o), (1, va_rf q1), (2, va_rf q2)]) hx hb dX5_urn_72 hl (k := 3) rfl (by rw [ex1]; rfl) (by decide) (by cases q2 <;> rfl) (fun ls hl => ?_)
  refine lv_goto (tgt := 2) hx hb dX5_urn_75 (by decide) ?_
  exact hK2 h bc bs q1 q2 x1 hF _ _ _ _ _ hB (lv_sub hl [1, 2, 3, 0] rfl) hH
