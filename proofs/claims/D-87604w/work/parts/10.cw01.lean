/-! THE COMPONENT SIDE: the walks, printed by gen_comp.py -/
set_option maxRecDepth 100000
set_option maxHeartbeats 4000000 in
set_option maxRecDepth 100000 in
theorem wc_J11_checkIndex {l : Launch} {D : va_G} {cA : Nat → ClassId} {P : Nat → Prop} {G : Nat × Nat × Nat} {Q : Int32 → Prop} {h : ZH} {C S : Nat} {v0 : Int32} {v1 : Int32} (hl9 : l.stackTraces = false) (hF : fc_J11_checkIndex G Q h v0 v1) :
    zc_M l yJ11_checkIndex (ws_ yJ11_checkIndex cJ11_checkIndex 2 (some .int)) 2 D cA P G [.int v0, .int v1] h C S (fun v h' => ∃ z : Int32, v = some (.int z) ∧ Q z ∧ h = h') zc_no := by
  refine zc_ofF hl9 rfl (by decide +kernel) (Nat.le_of_ble_eq_true rfl) ?_
  intro p e s m args below meth c H locs ls X hN hT hH hl
  have hx := X.1
  have hb := X.2.1
  have hown := X.2.2.2.1
  have hts := X.2.2.2.2.1
  have hl : lv_has ls 2 [(0, .int v0), (1, .int v1)] := hl
  have hB : 0 + 0 ≤ C ∧ 0 + 0 ≤ S := ⟨by omega, by omega⟩
  have eh : h = h := rfl
  unfold fc_J11_checkIndex at hF
  refine lv_iload_n hx hb dJ11_checkIndex_0 rfl (lv_at hl 0 rfl) ?_
  refine lv_iload_n hx hb dJ11_checkIndex_1 rfl (lv_at hl 1 rfl) ?_
  refine lv_null hx hb dJ11_checkIndex_2 ?_
  refine zc_call (c1 := 0) (s1 := 0) (rest := []) hH hB (Nat.zero_le _) (Nat.zero_le _) (fun hf => zc_rS X hH (As := [.int v0, .int v1, .null]) (wc_J12_checkIndex X.2.2.2.2.2.2.2.1 hF) (lw_S q482 q483 q108 q484) ⟨by decide, by decide, rfl⟩ ⟨Nat.le_of_ble_eq_true rfl, Nat.le_of_ble_eq_true rfl, Nat.le_of_ble_eq_true rfl⟩ rfl hl.1 (st0 := [.null, .int v1, .int v0]) rfl (Nat.le_of_ble_eq_true rfl) dJ11_checkIndex_3 hf) (fun E9 ce9 q9 h9 H locs hx9 => False.elim hx9) (fun v9 h9 H locs hv9 hH hB => ?_)
  obtain ⟨z1, rfl, hF, rfl⟩ := hv9
  exact zc_iret X hH hB rfl rfl ⟨_, rfl, hF, eh⟩ dJ11_checkIndex_6
set_option maxHeartbeats 4000000 in
set_option maxRecDepth 100000 in
theorem wc_J2_elementData {l : Launch} {D : va_G} {cA : Nat → ClassId} {P : Nat → Prop} {G : Nat × Nat × Nat} {o : Nat} {Q : Option Nat → Prop} {h : ZH} {C S : Nat} {v1 : Int32} (hl9 : l.stackTraces = false) (hF : fc_J2_elementData G o Q h v1) :
    zc_M l yJ2_elementData (ws_ yJ2_elementData cJ2_elementData 2 (some (.object "java/lang/Object"))) 1 D cA P G [.ref o, .int v1] h C S (fun v h' => ∃ z : Option Nat, v = some (va_rf z) ∧ Q z ∧ h = h') zc_no := by
  refine zc_ofF hl9 rfl (by decide +kernel) (Nat.le_of_ble_eq_true rfl) ?_
  intro p e s m args below meth c H locs ls X hN hT hH hl
  have hx := X.1
  have hb := X.2.1
  have hown := X.2.2.2.1
  have hts := X.2.2.2.2.1
  have hl : lv_has ls 2 [(0, .ref o), (1, .int v1)] := hl
  have hB : 0 + 0 ≤ C ∧ 0 + 0 ≤ S := ⟨by omega, by omega⟩
  have eh : h = h := rfl
  unfold fc_J2_elementData at hF
  refine lv_aload_n hx hb dJ2_elementData_0 rfl (lv_at hl 0 rfl) ?_
  obtain ⟨hc, hF⟩ := hF
  refine zc_getf X hH hc 1 301 ("java/util/ArrayList", "elementData", "[Ljava/lang/Object;", false) (by decide +kernel) (v := va_rf (zr h 301 o)) rfl q171 (Or.inl rfl) dJ2_elementData_1 ?_
  refine lv_iload_n hx hb dJ2_elementData_4 rfl (lv_at hl 1 rfl) ?_
  obtain ⟨b1, eb1, hF⟩ := hF
  refine zq_st (st2 := [.int v1, .ref b1]) (by rw [eb1]; first | done | rfl) ?_
  obtain ⟨hc, hF⟩ := hF
  obtain ⟨hI, hF⟩ := hF
  refine zc_aald X hH [22] 2 hc (by decide) hI dJ2_elementData_5 ?_
  exact zc_aret X hH hB rfl (by first | exact Or.inl ⟨_, rfl⟩ | exact Or.inr ⟨_, rfl⟩) (r := (zs h 2 b1 v1.toNatClampNeg)) rfl ⟨_, rfl, hF, eh⟩ dJ2_elementData_6
set_option maxHeartbeats 4000000 in
set_option maxRecDepth 100000 in
theorem wc_J2_get {l : Launch} {D : va_G} {cA : Nat → ClassId} {P : Nat → Prop} {G : Nat × Nat × Nat} {o : Nat} {Q : Option Nat → Prop} {h : ZH} {C S : Nat} {v1 : Int32} (hl9 : l.stackTraces = false) (hF : fc_J2_get G o Q h v1) :
    zc_M l yJ2_get (ws_ yJ2_get cJ2_get 2 (some (.object "java/lang/Object"))) 3 D cA P G [.ref o, .int v1] h C S (fun v h' => ∃ z : Option Nat, v = some (va_rf z) ∧ Q z ∧ h = h') zc_no := by
  refine zc_ofF hl9 rfl (by decide +kernel) (Nat.le_of_ble_eq_true rfl) ?_
  intro p e s m args below meth c H locs ls X hN hT hH hl
  have hx := X.1
  have hb := X.2.1
  have hown := X.2.2.2.1
  have hts := X.2.2.2.2.1
  have hl : lv_has ls 2 [(0, .ref o), (1, .int v1)] := hl
  have hB : 0 + 0 ≤ C ∧ 0 + 0 ≤ S := ⟨by omega, by omega⟩
  have eh : h = h := rfl
  unfold fc_J2_get at hF
  refine lv_iload_n hx hb dJ2_get_0 rfl (lv_at hl 1 rfl) ?_
  refine lv_aload_n hx hb dJ2_get_1 rfl (lv_at hl 0 rfl) ?_
  obtain ⟨hc, hF⟩ := hF
  refine zc_getf X hH hc 2 302 ("java/util/ArrayList", "size", "I", false) (by decide +kernel) (v := .int (zi h 302 o)) rfl q172 (Or.inl rfl) dJ2_get_2 ?_
  refine zc_call (c1 := 0) (s1 := 0) (rest := []) hH hB (Nat.zero_le _) (Nat.zero_le _) (fun hf => zc_rS X hH (As := [.int v1, .int (zi h 302 o)]) (wc_J11_checkIndex X.2.2.2.2.2.2.2.1 hF) (lw_S q479 q480 q107 q481) ⟨by decide, by decide, rfl⟩ ⟨Nat.le_of_ble_eq_true rfl, Nat.le_of_ble_eq_true rfl, Nat.le_of_ble_eq_true rfl⟩ rfl hl.1 (st0 := [.int (zi h 302 o), .int v1]) rfl (Nat.le_of_ble_eq_true rfl) dJ2_get_5 hf) (fun E9 ce9 q9 h9 H locs hx9 => False.elim hx9) (fun v9 h9 H locs hv9 hH hB => ?_)
  obtain ⟨z1, rfl, hF, rfl⟩ := hv9
  refine lv_pop hx hb dJ2_get_8 rfl ?_
  refine lv_aload_n hx hb dJ2_get_9 rfl (lv_at hl 0 rfl) ?_
  refine lv_iload_n hx hb dJ2_get_10 rfl (lv_at hl 1 rfl) ?_
  obtain ⟨hc, hF⟩ := hF
  refine zc_call (c1 := 0) (s1 := 0) (rest := []) hH hB (Nat.zero_le _) (Nat.zero_le _) (fun hf => zc_rV X hH hc (by decide) rfl (As := [.int v1]) (wc_J2_elementData X.2.2.2.2.2.2.2.1 hF) (lw_V q485 q486 q487 q94 q488) ⟨rfl, by decide, by decide, rfl⟩ ⟨Nat.le_of_ble_eq_true rfl, Nat.le_of_ble_eq_true rfl, Nat.le_of_ble_eq_true rfl⟩ rfl hl.1 (st0 := [.int v1, .ref o]) rfl (Nat.le_of_ble_eq_true rfl) dJ2_get_11 hf) (fun E9 ce9 q9 h9 H locs hx9 => False.elim hx9) (fun v9 h9 H locs hv9 hH hB => ?_)
  obtain ⟨r2, rfl, hF, rfl⟩ := hv9
  exact zc_aret X hH hB rfl (by first | exact Or.inl ⟨_, rfl⟩ | exact Or.inr ⟨_, rfl⟩) (r := r2) rfl ⟨_, rfl, hF, eh⟩ dJ2_get_14
set_option maxHeartbeats 4000000 in
set_option maxRecDepth 100000 in
theorem wc_X5_newRow_91 {p : Program} {l : Launch} {e : Env} {s : State} {m : MethodId} {args : Array Value} {below : List Frame} {meth : Method} {c : Code} {D : va_G} {cA : Nat → ClassId} {P : Nat → Prop} {G : Nat × Nat × Nat} {C S : Nat} {o : Nat} {Q : Int32 → ZH → Prop} {XE : String → Nat → ZH → Prop} (X : zc_Cx p l s m args meth c cX5_newRow 6 (some .int) "ChurchyardBook$Book" D cA P G) (hN : meth.name = "newRow") (hT : c.exceptionTable.toList = tableOf [(72, 88, 91, 85)]) :
    ∀ (h : ZH) (bc bs : Nat) (u0 : Option Nat), fc_X5_newRow_91 G o Q XE h bc bs u0 → ∀ (H : Heap) (locs : List Loc) (ls : Array Slot) (cells slots : Nat), cells + bc ≤ C ∧ slots + bs ≤ S → lv_has ls 6 [(0, .ref o)] → zc_H D cA P h s H locs → W p l e (zc_Ro 4 C S) s m args below meth c H locs cells slots (vx_MQ below (zc_Q D cA P (fun v h' => ∃ z : Int32, v = some (.int z) ∧ Q z h')) (zc_X D cA P XE) args s C S P) (F0 m 91 ls [va_rf u0]) := by
  have hx := X.1
  have hb := X.2.1
  have hown := X.2.2.2.1
  have hts := X.2.2.2.2.1
  intro h bc bs u0 hF
  intro H locs ls cells slots hB hl hH
  unfold fc_X5_newRow_91 at hF
  refine zq_astore (r := u0) (lv' := [(5, va_rf u0), (0, .ref o)]) hx hb rfl dX5_newRow_91 hl (by decide) rfl (fun ls hl => ?_)
  obtain ⟨hc1, hF⟩ := hF
  obtain ⟨hs1, hF⟩ := hF
  refine zc_new X hH hB (ci := 5) rfl (n := 7) q499 q266 q98 (by decide) hc1 hs1 dX5_newRow_93 (fun a1 h2 H hza1 eh2 hH hB => ?_)
  have hF := hF a1 h2 hza1 eh2
  refine lv_dup hx hb dX5_newRow_96 rfl ?_
  refine lv_bipush (v := (-5)) hx hb dX5_newRow_97 (by decide) ?_
  refine zc_call (c1 := 0) (s1 := 0) (rest := [.ref a1]) hH hB (Nat.zero_le _) (Nat.zero_le _) (fun hf => zc_rI X hH (As := [.int (-5)]) (wc_X7_init X.2.2.2.2.2.2.2.1 hF) (lw_meth q323) q500 q98 q322 rfl ⟨by decide, by decide, rfl⟩ ⟨Nat.le_of_ble_eq_true rfl, Nat.le_of_ble_eq_true rfl, Nat.le_of_ble_eq_true rfl⟩ rfl hl.1 (st0 := [.int (-5), .ref a1, .ref a1]) rfl (Nat.le_of_ble_eq_true rfl) dX5_newRow_99 hf) (fun E9 ce9 q9 h9 H locs hx9 => False.elim hx9) (fun v9 h3 H locs hv9 hH hB => ?_)
  obtain ⟨rfl, hF⟩ := hv9
  obtain ⟨hc, hF⟩ := hF
  obtain ⟨ce9, hce, hcv, hcl⟩ := zc_cell X hH (a := a1) (by rw [hc]; decide)
  rw [hc] at hcl
  refine vx_athrow hx hb dX5_newRow_102 ?_
  exact zc_outP X hH hB hT (by decide) (nm := "java/lang/NegativeArraySizeException") q445 (Or.inl (by decide)) hce hcv hcl hF
set_option maxHeartbeats 4000000 in
set_option maxRecDepth 100000 in
theorem wc_X5_newRow_68 {p : Program} {l : Launch} {e : Env} {s : State} {m : MethodId} {args : Array Value} {below : List Frame} {meth : Method} {c : Code} {D : va_G} {cA : Nat → ClassId} {P : Nat → Prop} {G : Nat × Nat × Nat} {C S : Nat} {o : Nat} {Q : Int32 → ZH → Prop} {XE : String → Nat → ZH → Prop} (X : zc_Cx p l s m args meth c cX5_newRow 6 (some .int) "ChurchyardBook$Book" D cA P G) (hN : meth.name = "newRow") (hT : c.exceptionTable.toList = tableOf [(72, 88, 91, 85)]) :
    ∀ (h : ZH) (bc bs : Nat) (v2 : Int32) (v3 : Int32) (q4 : Option Nat) (t0 : Int32), fc_X5_newRow_68 G o Q XE h bc bs v2 v3 q4 t0 → ∀ (H : Heap) (locs : List Loc) (ls : Array Slot) (cells slots : Nat), cells + bc ≤ C ∧ slots + bs ≤ S → lv_has ls 6 [(0, .ref o), (2, .int v2), (3, .int v3), (4, va_rf q4)] → zc_H D cA P h s H locs → W p l e (zc_Ro 4 C S) s m args below meth c H locs cells slots (vx_MQ below (zc_Q D cA P (fun v h' => ∃ z : Int32, v = some (.int z) ∧ Q z h')) (zc_X D cA P XE) args s C S P) (F0 m 68 ls [.int t0]) := by
  have hx := X.1
  have hb := X.2.1
  have hown := X.2.2.2.1
  have hts := X.2.2.2.2.1
  intro h bc bs v2 v3 q4 t0 hF
  intro H locs ls cells slots hB hl hH
  unfold fc_X5_newRow_68 at hF
  refine lv_iconst (v := (-1)) hx hb dX5_newRow_68 (by decide) ?_
  obtain ⟨c1, s2, hc1, hs1, hF⟩ := hF
  refine zc_call (c1 := c1) (s1 := s2) (rest := []) hH hB hc1 hs1 (fun hf => zc_rSN X hH (As := [.int t0, .int (-1)]) (host := "ChurchyardBook") (wc_X1_need X.2.2.2.2.2.2.2.1 hF) (lw_meth q265) (by decide +kernel) q87 q264 ⟨by decide, by decide, rfl⟩ ⟨Nat.le_of_ble_eq_true rfl, Nat.le_of_ble_eq_true rfl, Nat.le_of_ble_eq_true rfl⟩ rfl hl.1 (st0 := [.int (-1), .int t0]) rfl (Nat.le_of_ble_eq_true rfl) dX5_newRow_69 hf) (fun E9 ce9 q3 h4 H locs hx9 hH hB hce hcv hcl => ?_) (fun v9 h9 H locs hv9 hH hB => ?_)
  · exact zc_outP X hH hB hT (by decide) (nm := "java/lang/NegativeArraySizeException") q445 (Or.inl (by decide)) hce hcv hcl hx9
  obtain ⟨rfl, hF, rfl⟩ := hv9
  refine zq_aload hx hb dX5_newRow_72 (lv_at hl 3 rfl) ?_
  obtain ⟨b5, eb5, hF⟩ := hF
  refine zq_st (st2 := [.ref b5]) (by rw [eb5]; first | done | rfl) ?_
  obtain ⟨hc, hF⟩ := hF
  refine zc_getf X hH hc 1 501 ("ChurchyardBook$Field", "rows", "[[LChurchyardBook$Place;", true) (by decide +kernel) (v := va_rf (zr h 501 b5)) rfl q365 (Or.inl rfl) dX5_newRow_74 ?_
  refine zq_aload hx hb dX5_newRow_77 (lv_at hl 3 rfl) ?_
  refine zq_st (st2 := [.ref b5, va_rf (zr h 501 b5)]) (by rw [eb5]; first | done | rfl) ?_
  obtain ⟨hc, hF⟩ := hF
  refine zc_getf X hH hc 2 502 ("ChurchyardBook$Field", "many", "I", false) (by decide +kernel) (v := .int (zi h 502 b5)) rfl q367 (Or.inl rfl) dX5_newRow_79 ?_
  refine lv_iload_n hx hb dX5_newRow_82 rfl (lv_at hl 1 rfl) ?_
  refine lv_iload_n hx hb dX5_newRow_83 rfl (lv_at hl 2 rfl) ?_
  obtain ⟨c6, s7, hc1, hs1, hF⟩ := hF
  refine zc_call (c1 := c6) (s1 := s7) (rest := [.int (zi h 502 b5), va_rf (zr h 501 b5)]) hH hB hc1 hs1 (fun hf => zc_rSN X hH (As := [.int v2, .int v3]) (host := "ChurchyardBook") (wc_X1_newRow X.2.2.2.2.2.2.2.1 hF) (lw_meth q491) (by decide +kernel) q87 q490 ⟨by decide, by decide, rfl⟩ ⟨Nat.le_of_ble_eq_true rfl, Nat.le_of_ble_eq_true rfl, Nat.le_of_ble_eq_true rfl⟩ rfl hl.1 (st0 := [.int v3, .int v2, .int (zi h 502 b5), va_rf (zr h 501 b5)]) rfl (by simp only [List.map_cons, List.map_nil, List.sum_cons, List.sum_nil, zc_k1]; exact Nat.le_of_ble_eq_true rfl) dX5_newRow_84 hf) (fun E9 ce9 q10 h11 H locs hx9 hH hB hce hcv hcl => ?_) (fun v9 h9 H locs hv9 hH hB => ?_)
  · obtain ⟨rfl, hF⟩ := hx9
    refine zc_ktch X hT (by decide) (by decide) q445 (zc_KA X zc_sG _ (by decide +kernel)) hce hcv hcl ?_
    exact wc_X5_newRow_91 X hN hT h11 ((bc - c1) - c6) ((bs - s2) - s7) (some q10) hF _ _ _ _ _ hB (lv_sub hl [0] rfl) hH
  obtain ⟨r8, rfl, hF⟩ := hv9
  obtain ⟨b12, eb12, hF⟩ := hF
  refine zq_st (st2 := [va_rf r8, .int (zi h 502 b5), .ref b12]) (by rw [eb12]; first | done | rfl) ?_
  obtain ⟨hc, hF⟩ := hF
  obtain ⟨hI, hF⟩ := hF
  obtain ⟨hR, hF⟩ := hF
  refine zc_aast X hH [27] 7 hc (by decide) (r := r8) rfl hI hR dX5_newRow_87 (fun h13 H locs eh13 hH => ?_)
  have hF := hF h13 eh13
  refine lv_goto (tgt := 103) hx hb dX5_newRow_88 (by decide) ?_
  refine zq_aload hx hb dX5_newRow_103 (lv_at hl 3 rfl) ?_
  refine lv_dup hx hb dX5_newRow_105 (by cases q4 <;> rfl) ?_
  refine zq_st (st2 := [.ref b5, va_rf q4]) (by rw [eb5]; first | done | rfl) ?_
  obtain ⟨hc, hF⟩ := hF
  refine zc_getf X hH hc 2 502 ("ChurchyardBook$Field", "many", "I", false) (by decide +kernel) (v := .int (zi h13 502 b5)) rfl q367 (Or.inl rfl) dX5_newRow_106 ?_
  refine lv_iconst (v := 1) hx hb dX5_newRow_109 (by decide) ?_
  refine lv_iadd hx hb dX5_newRow_110 ?_
  refine zq_st (st2 := [.int ((zi h13 502 b5) + 1), .ref b5]) (by rw [eb5]; first | done | rfl) ?_
  obtain ⟨hc, hF⟩ := hF
  refine zc_puti X hH hc 2 502 ("ChurchyardBook$Field", "many", "I", false) (by decide +kernel) rfl q367 (Or.inl rfl) (ty := .int) (by decide +kernel) rfl rfl (Or.inl rfl) dX5_newRow_111 (fun h14 H locs eh14 hH => ?_)
  have hF := hF h14 eh14
  refine zq_aload hx hb dX5_newRow_114 (lv_at hl 3 rfl) ?_
  refine zq_st (st2 := [.ref b5]) (by rw [eb5]; first | done | rfl) ?_
  obtain ⟨hc, hF⟩ := hF
  refine zc_getf X hH hc 2 502 ("ChurchyardBook$Field", "many", "I", false) (by decide +kernel) (v := .int (zi h14 502 b5)) rfl q367 (Or.inl rfl) dX5_newRow_116 ?_
  refine lv_iconst (v := 1) hx hb dX5_newRow_119 (by decide) ?_
  refine lv_isub hx hb dX5_newRow_120 ?_
  exact zc_iret X hH hB rfl rfl ⟨_, rfl, hF⟩ dX5_newRow_121
set_option maxHeartbeats 4000000 in
set_option maxRecDepth 100000 in
theorem wc_X5_newRow_67 {p : Program} {l : Launch} {e : Env} {s : State} {m : MethodId} {args : Array Value} {below : List Frame} {meth : Method} {c : Code} {D : va_G} {cA : Nat → ClassId} {P : Nat → Prop} {G : Nat × Nat × Nat} {C S : Nat} {o : Nat} {Q : Int32 → ZH → Prop} {XE : String → Nat → ZH → Prop} (X : zc_Cx p l s m args meth c cX5_newRow 6 (some .int) "ChurchyardBook$Book" D cA P G) (hN : meth.name = "newRow") (hT : c.exceptionTable.toList = tableOf [(72, 88, 91, 85)]) :
    ∀ (h : ZH) (bc bs : Nat) (v2 : Int32) (v3 : Int32) (q4 : Option Nat), fc_X5_newRow_67 G o Q XE h bc bs v2 v3 q4 → ∀ (H : Heap) (locs : List Loc) (ls : Array Slot) (cells slots : Nat), cells + bc ≤ C ∧ slots + bs ≤ S → lv_has ls 6 [(0, .ref o), (2, .int v2), (3, .int v3), (4, va_rf q4)] → zc_H D cA P h s H locs → W p l e (zc_Ro 4 C S) s m args below meth c H locs cells slots (vx_MQ below (zc_Q D cA P (fun v h' => ∃ z : Int32, v = some (.int z) ∧ Q z h')) (zc_X D cA P XE) args s C S P) (F0 m 67 ls []) := by
  have hx := X.1
  have hb := X.2.1
  have hown := X.2.2.2.1
  have hts := X.2.2.2.2.1
  intro h bc bs v2 v3 q4 hF
  intro H locs ls cells slots hB hl hH
  unfold fc_X5_newRow_67 at hF
  refine lv_iconst (v := 0) hx hb dX5_newRow_67 (by decide) ?_
  exact wc_X5_newRow_68 X hN hT h bc bs v2 v3 q4 0 hF _ _ _ _ _ hB (lv_sub hl [0, 1, 2, 3] rfl) hH
set_option maxHeartbeats 4000000 in
set_option maxRecDepth 100000 in
theorem wc_X5_newRow_20 {p : Program} {l : Launch} {e : Env} {s : State} {m : MethodId} {args : Array Value} {below : List Frame} {meth : Method} {c : Code} {D : va_G} {cA : Nat → ClassId} {P : Nat → Prop} {G : Nat × Nat × Nat} {C S : Nat} {o : Nat} {Q : Int32 → ZH → Prop} {XE : String → Nat → ZH → Prop} (X : zc_Cx p l s m args meth c cX5_newRow 6 (some .int) "ChurchyardBook$Book" D cA P G) (hN : meth.name = "newRow") (hT : c.exceptionTable.toList = tableOf [(72, 88, 91, 85)]) :
    ∀ (h : ZH) (bc bs : Nat) (v1 : Int32) (v2 : Int32) (v3 : Int32) (t0 : Int32), fc_X5_newRow_20 G o Q XE h bc bs v1 v2 v3 t0 → ∀ (H : Heap) (locs : List Loc) (ls : Array Slot) (cells slots : Nat), cells + bc ≤ C ∧ slots + bs ≤ S → lv_has ls 6 [(0, .ref o), (1, .int v1), (2, .int v2), (3, .int v3)] → zc_H D cA P h s H locs → W p l e (zc_Ro 4 C S) s m args below meth c H locs cells slots (vx_MQ below (zc_Q D cA P (fun v h' => ∃ z : Int32, v = some (.int z) ∧ Q z h')) (zc_X D cA P XE) args s C S P) (F0 m 20 ls [.int t0]) := by
  have hx := X.1
  have hb := X.2.1
  have hown := X.2.2.2.1
  have hts := X.2.2.2.2.1
  intro h bc bs v1 v2 v3 t0 hF
  intro H locs ls cells slots hB hl hH
  unfold fc_X5_newRow_20 at hF
  refine lv_bipush (v := (-2)) hx hb dX5_newRow_20 (by decide) ?_
  obtain ⟨c1, s2, hc1, hs1, hF⟩ := hF
  refine zc_call (c1 := c1) (s1 := s2) (rest := []) hH hB hc1 hs1 (fun hf => zc_rSN X hH (As := [.int t0, .int (-2)]) (host := "ChurchyardBook") (wc_X1_need X.2.2.2.2.2.2.2.1 hF) (lw_meth q265) (by decide +kernel) q87 q264 ⟨by decide, by decide, rfl⟩ ⟨Nat.le_of_ble_eq_true rfl, Nat.le_of_ble_eq_true rfl, Nat.le_of_ble_eq_true rfl⟩ rfl hl.1 (st0 := [.int (-2), .int t0]) rfl (Nat.le_of_ble_eq_true rfl) dX5_newRow_22 hf) (fun E9 ce9 q3 h4 H locs hx9 hH hB hce hcv hcl => ?_) (fun v9 h9 H locs hv9 hH hB => ?_)
  · exact zc_outP X hH hB hT (by decide) (nm := "java/lang/NegativeArraySizeException") q445 (Or.inl (by decide)) hce hcv hcl hx9
  obtain ⟨rfl, hF, rfl⟩ := hv9
  refine lv_aload_n hx hb dX5_newRow_25 rfl (lv_at hl 0 rfl) ?_
  obtain ⟨hc, hF⟩ := hF
  refine zc_getf X hH hc 0 200 ("ChurchyardBook$Book", "fields", "Ljava/util/ArrayList;", true) (by decide +kernel) (v := va_rf (zr h 200 o)) rfl q188 (Or.inl rfl) dX5_newRow_26 ?_
  refine lv_iload_n hx hb dX5_newRow_29 rfl (lv_at hl 1 rfl) ?_
  obtain ⟨b5, eb5, hF⟩ := hF
  refine zq_st (st2 := [.int v1, .ref b5]) (by rw [eb5]; first | done | rfl) ?_
  obtain ⟨hc, hF⟩ := hF
  refine zc_call (c1 := 0) (s1 := 0) (rest := []) hH hB (Nat.zero_le _) (Nat.zero_le _) (fun hf => zc_rV X hH hc (by decide) rfl (As := [.int v1]) (wc_J2_get X.2.2.2.2.2.2.2.1 hF) (lw_V q475 q476 q477 q94 q478) ⟨rfl, by decide, by decide, rfl⟩ ⟨Nat.le_of_ble_eq_true rfl, Nat.le_of_ble_eq_true rfl, Nat.le_of_ble_eq_true rfl⟩ rfl hl.1 (st0 := [.int v1, .ref b5]) rfl (Nat.le_of_ble_eq_true rfl) dX5_newRow_30 hf) (fun E9 ce9 q9 h9 H locs hx9 => False.elim hx9) (fun v9 h9 H locs hv9 hH hB => ?_)
  obtain ⟨r6, rfl, hF, rfl⟩ := hv9
  obtain ⟨hR, hF⟩ := hF
  refine zc_castY X hH (r := r6) [7] "ChurchyardBook$Field" hR (by decide) (by decide +kernel) q353 dX5_newRow_33 ?_
  refine zq_astore (r := r6) (lv' := [(4, va_rf r6), (0, .ref o), (1, .int v1), (2, .int v2), (3, .int v3)]) hx hb rfl dX5_newRow_36 hl (by decide) rfl (fun ls hl => ?_)
  refine lv_iload_n hx hb dX5_newRow_38 rfl (lv_at hl 3 rfl) ?_
  refine lv_if_lt (tgt := 67) hx hb dX5_newRow_39 (by decide) (fun cd => ?_) (fun cd => ?_)
  · have hF := hF.1 cd
    exact wc_X5_newRow_67 X hN hT h (bc - c1) (bs - s2) v2 v3 r6 hF _ _ _ _ _ hB (lv_sub hl [1, 3, 4, 0] rfl) hH
  · have hF := hF.2 cd
    refine lv_iload_n hx hb dX5_newRow_42 rfl (lv_at hl 3 rfl) ?_
    refine lv_iconst (v := 3) hx hb dX5_newRow_43 (by decide) ?_
    refine lv_icmp_gt (tgt := 67) hx hb dX5_newRow_44 (by decide) (fun cd => ?_) (fun cd => ?_)
    · have hF := hF.1 cd
      exact wc_X5_newRow_67 X hN hT h (bc - c1) (bs - s2) v2 v3 r6 hF _ _ _ _ _ hB (lv_sub hl [1, 3, 4, 0] rfl) hH
    · have hF := hF.2 cd
      refine zq_aload hx hb dX5_newRow_47 (lv_at hl 0 rfl) ?_
      obtain ⟨b7, eb7, hF⟩ := hF
      refine zq_st (st2 := [.ref b7]) (by rw [eb7]; first | done | rfl) ?_
      obtain ⟨hc, hF⟩ := hF
      refine zc_getf X hH hc 2 502 ("ChurchyardBook$Field", "many", "I", false) (by decide +kernel) (v := .int (zi h 502 b7)) rfl q367 (Or.inl rfl) dX5_newRow_49 ?_
      refine lv_bipush (v := 12) hx hb dX5_newRow_52 (by decide) ?_
      refine lv_icmp_ge (tgt := 67) hx hb dX5_newRow_54 (by decide) (fun cd => ?_) (fun cd => ?_)
      · have hF := hF.1 cd
        exact wc_X5_newRow_67 X hN hT h (bc - c1) (bs - s2) v2 v3 r6 hF _ _ _ _ _ hB (lv_sub hl [1, 3, 4, 0] rfl) hH
      · have hF := hF.2 cd
        refine lv_iload_n hx hb dX5_newRow_57 rfl (lv_at hl 4 rfl) ?_
        refine lv_bipush (v := 30) hx hb dX5_newRow_58 (by decide) ?_
        refine lv_icmp_gt (tgt := 67) hx hb dX5_newRow_60 (by decide) (fun cd => ?_) (fun cd => ?_)
        · have hF := hF.1 cd
          exact wc_X5_newRow_67 X hN hT h (bc - c1) (bs - s2) v2 v3 r6 hF _ _ _ _ _ hB (lv_sub hl [1, 3, 4, 0] rfl) hH
        · have hF := hF.2 cd
          refine lv_iconst (v := 1) hx hb dX5_newRow_63 (by decide) ?_
          refine lv_goto (tgt := 68) hx hb dX5_newRow_64 (by decide) ?_
          exact wc_X5_newRow_68 X hN hT h (bc - c1) (bs - s2) v2 v3 r6 1 hF _ _ _ _ _ hB (lv_sub hl [1, 3, 4, 0] rfl) hH
set_option maxHeartbeats 4000000 in
set_option maxRecDepth 100000 in
theorem wc_X5_newRow_19 {p : Program} {l : Launch} {e : Env} {s : State} {m : MethodId} {args : Array Value} {below : List Frame} {meth : Method} {c : Code} {D : va_G} {cA : Nat → ClassId} {P : Nat → Prop} {G : Nat × Nat × Nat} {C S : Nat} {o : Nat} {Q : Int32 → ZH → Prop} {XE : String → Nat → ZH → Prop} (X : zc_Cx p l s m args meth c cX5_newRow 6 (some .int) "ChurchyardBook$Book" D cA P G) (hN : meth.name = "newRow") (hT : c.exceptionTable.toList = tableOf [(72, 88, 91, 85)]) :
    ∀ (h : ZH) (bc bs : Nat) (v1 : Int32) (v2 : Int32) (v3 : Int32), fc_X5_newRow_19 G o Q XE h bc bs v1 v2 v3 → ∀ (H : Heap) (locs : List Loc) (ls : Array Slot) (cells slots : Nat), cells + bc ≤ C ∧ slots + bs ≤ S → lv_has ls 6 [(0, .ref o), (1, .int v1), (2, .int v2), (3, .int v3)] → zc_H D cA P h s H locs → W p l e (zc_Ro 4 C S) s m args below meth c H locs cells slots (vx_MQ below (zc_Q D cA P (fun v h' => ∃ z : Int32, v = some (.int z) ∧ Q z h')) (zc_X D cA P XE) args s C S P) (F0 m 19 ls []) := by
  have hx := X.1
  have hb := X.2.1
  have hown := X.2.2.2.1
  have hts := X.2.2.2.2.1
  intro h bc bs v1 v2 v3 hF
  intro H locs ls cells slots hB hl hH
  unfold fc_X5_newRow_19 at hF
  refine lv_iconst (v := 0) hx hb dX5_newRow_19 (by decide) ?_
  exact wc_X5_newRow_20 X hN hT h bc bs v1 v2 v3 0 hF _ _ _ _ _ hB (lv_sub hl [0, 1, 2, 3] rfl) hH
set_option maxHeartbeats 4000000 in
set_option maxRecDepth 100000 in
theorem wc_X5_newRow {l : Launch} {D : va_G} {cA : Nat → ClassId} {P : Nat → Prop} {G : Nat × Nat × Nat} {o : Nat} {Q : Int32 → ZH → Prop} {XE : String → Nat → ZH → Prop} {h : ZH} {C S : Nat} {v1 : Int32} {v2 : Int32} {v3 : Int32} (hl9 : l.stackTraces = false) (hF : fc_X5_newRow G o Q XE h C S v1 v2 v3) :
    zc_M l yX5_newRow (wsW_ yX5_newRow cX5_newRow 6 (some .int) [(72, 88, 91, 85)]) 4 D cA P G [.ref o, .int v1, .int v2, .int v3] h C S (fun v h' => ∃ z : Int32, v = some (.int z) ∧ Q z h') XE := by
  refine zc_ofH [(72, 88, 91, 85)] hl9 rfl (by decide +kernel) (Nat.le_of_ble_eq_true rfl) ?_
  intro p e s m args below meth c H locs ls X hN hT hH hl
  have hx := X.1
  have hb := X.2.1
  have hown := X.2.2.2.1
  have hts := X.2.2.2.2.1
  have hl : lv_has ls 6 [(0, .ref o), (1, .int v1), (2, .int v2), (3, .int v3)] := hl
  have hB : 0 + C ≤ C ∧ 0 + S ≤ S := ⟨by omega, by omega⟩
  unfold fc_X5_newRow at hF
  refine lv_iload_n hx hb dX5_newRow_0 rfl (lv_at hl 1 rfl) ?_
  refine lv_if_lt (tgt := 19) hx hb dX5_newRow_1 (by decide) (fun cd => ?_) (fun cd => ?_)
  · have hF := hF.1 cd
    exact wc_X5_newRow_19 X hN hT h C S v1 v2 v3 hF _ _ _ _ _ hB (lv_sub hl [0, 1, 2, 3] rfl) hH
  · have hF := hF.2 cd
    refine lv_iload_n hx hb dX5_newRow_4 rfl (lv_at hl 1 rfl) ?_
    refine lv_aload_n hx hb dX5_newRow_5 rfl (lv_at hl 0 rfl) ?_
    obtain ⟨hc, hF⟩ := hF
    refine zc_getf X hH hc 0 200 ("ChurchyardBook$Book", "fields", "Ljava/util/ArrayList;", true) (by decide +kernel) (v := va_rf (zr h 200 o)) rfl q188 (Or.inl rfl) dX5_newRow_6 ?_
    obtain ⟨b1, eb1, hF⟩ := hF
    refine zq_st (st2 := [.ref b1, .int v1]) (by rw [eb1]; first | done | rfl) ?_
    obtain ⟨hc, hF⟩ := hF
    refine zc_call (c1 := 0) (s1 := 0) (rest := [.int v1]) hH hB (Nat.zero_le _) (Nat.zero_le _) (fun hf => zc_rV X hH hc (by decide) rfl (As := []) (wc_J2_size X.2.2.2.2.2.2.2.1 hF) (lw_V q349 q350 q351 q94 q352) ⟨rfl, by decide, by decide, rfl⟩ ⟨Nat.le_of_ble_eq_true rfl, Nat.le_of_ble_eq_true rfl, Nat.le_of_ble_eq_true rfl⟩ rfl hl.1 (st0 := [.ref b1, .int v1]) rfl (Nat.le_of_ble_eq_true rfl) dX5_newRow_9 hf) (fun E9 ce9 q9 h9 H locs hx9 => False.elim hx9) (fun v9 h9 H locs hv9 hH hB => ?_)
    obtain ⟨z2, rfl, hF, rfl⟩ := hv9
    refine lv_icmp_ge (tgt := 19) hx hb dX5_newRow_12 (by decide) (fun cd => ?_) (fun cd => ?_)
    · have hF := hF.1 cd
      exact wc_X5_newRow_19 X hN hT h C S v1 v2 v3 hF _ _ _ _ _ hB (lv_sub hl [0, 1, 2, 3] rfl) hH
    · have hF := hF.2 cd
      refine lv_iconst (v := 1) hx hb dX5_newRow_15 (by decide) ?_
      refine lv_goto (tgt := 20) hx hb dX5_newRow_16 (by decide) ?_
      exact wc_X5_newRow_20 X hN hT h C S v1 v2 v3 1 hF _ _ _ _ _ hB (lv_sub hl [0, 1, 2, 3] rfl) hH
set_option maxHeartbeats 4000000 in
set_option maxRecDepth 100000 in
theorem wc_X5_row_82 {p : Program} {l : Launch} {e : Env} {s : State} {m : MethodId} {args : Array Value} {below : List Frame} {meth : Method} {c : Code} {D : va_G} {cA : Nat → ClassId} {P : Nat → Prop} {G : Nat × Nat × Nat} {C S : Nat} {o : Nat} {Q : Option Nat → Prop} {XE : String → Nat → ZH → Prop} {h0 : ZH} (X : zc_Cx p l s m args meth c cX5_row 5 (some (.array (.object "ChurchyardBook$Place"))) "ChurchyardBook$Book" D cA P G) (hN : meth.name = "row") (hT : c.exceptionTable.toList = tableOf [(59, 79, 82, 57)]) :
    ∀ (h : ZH) (bc bs : Nat) (u0 : Option Nat), fc_X5_row_82 G o Q XE h bc bs u0 → ∀ (H : Heap) (locs : List Loc) (ls : Array Slot) (cells slots : Nat), cells + bc ≤ C ∧ slots + bs ≤ S → h0 = h → lv_has ls 5 [(0, .ref o)] → zc_H D cA P h s H locs → W p l e (zc_Ro 4 C S) s m args below meth c H locs cells slots (vx_MQ below (zc_Q D cA P (fun v h' => ∃ z : Option Nat, v = some (va_rf z) ∧ Q z ∧ h0 = h')) (zc_X D cA P XE) args s C S P) (F0 m 82 ls [va_rf u0]) := by
  have hx := X.1
  have hb := X.2.1
  have hown := X.2.2.2.1
  have hts := X.2.2.2.2.1
  intro h bc bs u0 hF
  intro H locs ls cells slots hB eh hl hH
  unfold fc_X5_row_82 at hF
  refine zq_astore (r := u0) (lv' := [(4, va_rf u0), (0, .ref o)]) hx hb rfl dX5_row_82 hl (by decide) rfl (fun ls hl => ?_)
  obtain ⟨hc1, hF⟩ := hF
  obtain ⟨hs1, hF⟩ := hF
  refine zc_new X hH hB (ci := 5) rfl (n := 7) q499 q266 q98 (by decide) hc1 hs1 dX5_row_84 (fun a1 h2 H hza1 eh2 hH hB => ?_)
  have hF := hF a1 h2 hza1 eh2
  refine lv_dup hx hb dX5_row_87 rfl ?_
  refine lv_bipush (v := (-3)) hx hb dX5_row_88 (by decide) ?_
  refine zc_call (c1 := 0) (s1 := 0) (rest := [.ref a1]) hH hB (Nat.zero_le _) (Nat.zero_le _) (fun hf => zc_rI X hH (As := [.int (-3)]) (wc_X7_init X.2.2.2.2.2.2.2.1 hF) (lw_meth q323) q500 q98 q322 rfl ⟨by decide, by decide, rfl⟩ ⟨Nat.le_of_ble_eq_true rfl, Nat.le_of_ble_eq_true rfl, Nat.le_of_ble_eq_true rfl⟩ rfl hl.1 (st0 := [.int (-3), .ref a1, .ref a1]) rfl (Nat.le_of_ble_eq_true rfl) dX5_row_90 hf) (fun E9 ce9 q9 h9 H locs hx9 => False.elim hx9) (fun v9 h3 H locs hv9 hH hB => ?_)
  obtain ⟨rfl, hF⟩ := hv9
  obtain ⟨hc, hF⟩ := hF
  obtain ⟨ce9, hce, hcv, hcl⟩ := zc_cell X hH (a := a1) (by rw [hc]; decide)
  rw [hc] at hcl
  refine vx_athrow hx hb dX5_row_93 ?_
  exact zc_outP X hH hB hT (by decide) (nm := "java/lang/NullPointerException") q509 (Or.inl (by decide)) hce hcv hcl hF
set_option maxHeartbeats 4000000 in
set_option maxRecDepth 100000 in
theorem wc_X5_row_74 {p : Program} {l : Launch} {e : Env} {s : State} {m : MethodId} {args : Array Value} {below : List Frame} {meth : Method} {c : Code} {D : va_G} {cA : Nat → ClassId} {P : Nat → Prop} {G : Nat × Nat × Nat} {C S : Nat} {o : Nat} {Q : Option Nat → Prop} {XE : String → Nat → ZH → Prop} {h0 : ZH} (X : zc_Cx p l s m args meth c cX5_row 5 (some (.array (.object "ChurchyardBook$Place"))) "ChurchyardBook$Book" D cA P G) (hN : meth.name = "row") (hT : c.exceptionTable.toList = tableOf [(59, 79, 82, 57)]) :
    ∀ (h : ZH) (bc bs : Nat) (v2 : Int32) (q3 : Option Nat) (t0 : Int32), fc_X5_row_74 G o Q XE h bc bs v2 q3 t0 → ∀ (H : Heap) (locs : List Loc) (ls : Array Slot) (cells slots : Nat), cells + bc ≤ C ∧ slots + bs ≤ S → h0 = h → lv_has ls 5 [(0, .ref o), (2, .int v2), (3, va_rf q3)] → zc_H D cA P h s H locs → W p l e (zc_Ro 4 C S) s m args below meth c H locs cells slots (vx_MQ below (zc_Q D cA P (fun v h' => ∃ z : Option Nat, v = some (va_rf z) ∧ Q z ∧ h0 = h')) (zc_X D cA P XE) args s C S P) (F0 m 74 ls [.int t0]) := by
  have hx := X.1
  have hb := X.2.1
  have hown := X.2.2.2.1
  have hts := X.2.2.2.2.1
  intro h bc bs v2 q3 t0 hF
  intro H locs ls cells slots hB eh hl hH
  unfold fc_X5_row_74 at hF
  refine lv_bipush (v := (-3)) hx hb dX5_row_74 (by decide) ?_
  obtain ⟨c1, s2, hc1, hs1, hF⟩ := hF
  refine zc_call (c1 := c1) (s1 := s2) (rest := []) hH hB hc1 hs1 (fun hf => zc_rSN X hH (As := [.int t0, .int (-3)]) (host := "ChurchyardBook") (wc_X1_need X.2.2.2.2.2.2.2.1 hF) (lw_meth q265) (by decide +kernel) q87 q264 ⟨by decide, by decide, rfl⟩ ⟨Nat.le_of_ble_eq_true rfl, Nat.le_of_ble_eq_true rfl, Nat.le_of_ble_eq_true rfl⟩ rfl hl.1 (st0 := [.int (-3), .int t0]) rfl (Nat.le_of_ble_eq_true rfl) dX5_row_76 hf) (fun E9 ce9 q3 h4 H locs hx9 hH hB hce hcv hcl => ?_) (fun v9 h9 H locs hv9 hH hB => ?_)
  · obtain ⟨rfl, hx9⟩ := hx9
    exact zc_outP X hH hB hT (by decide) (nm := "java/lang/NullPointerException") q509 (Or.inr (by decide +kernel)) hce hcv hcl hx9
  obtain ⟨rfl, hF, rfl⟩ := hv9
  refine lv_goto (tgt := 94) hx hb dX5_row_79 (by decide) ?_
  refine zq_aload_n hx hb dX5_row_94 rfl (lv_at hl 2 rfl) ?_
  obtain ⟨b5, eb5, hF⟩ := hF
  refine zq_st (st2 := [.ref b5]) (by rw [eb5]; first | done | rfl) ?_
  obtain ⟨hc, hF⟩ := hF
  refine zc_getf X hH hc 1 501 ("ChurchyardBook$Field", "rows", "[[LChurchyardBook$Place;", true) (by decide +kernel) (v := va_rf (zr h 501 b5)) rfl q365 (Or.inl rfl) dX5_row_95 ?_
  refine lv_iload_n hx hb dX5_row_98 rfl (lv_at hl 1 rfl) ?_
  obtain ⟨b6, eb6, hF⟩ := hF
  refine zq_st (st2 := [.int v2, .ref b6]) (by rw [eb6]; first | done | rfl) ?_
  obtain ⟨hc, hF⟩ := hF
  obtain ⟨hI, hF⟩ := hF
  refine zc_aald X hH [27] 7 hc (by decide) hI dX5_row_99 ?_
  exact zc_aret X hH hB rfl (by first | exact Or.inl ⟨_, rfl⟩ | exact Or.inr ⟨_, rfl⟩) (r := (zs h 7 b6 v2.toNatClampNeg)) rfl ⟨_, rfl, hF, eh⟩ dX5_row_100
set_option maxHeartbeats 4000000 in
set_option maxRecDepth 100000 in
theorem wc_X5_row_54 {p : Program} {l : Launch} {e : Env} {s : State} {m : MethodId} {args : Array Value} {below : List Frame} {meth : Method} {c : Code} {D : va_G} {cA : Nat → ClassId} {P : Nat → Prop} {G : Nat × Nat × Nat} {C S : Nat} {o : Nat} {Q : Option Nat → Prop} {XE : String → Nat → ZH → Prop} {h0 : ZH} (X : zc_Cx p l s m args meth c cX5_row 5 (some (.array (.object "ChurchyardBook$Place"))) "ChurchyardBook$Book" D cA P G) (hN : meth.name = "row") (hT : c.exceptionTable.toList = tableOf [(59, 79, 82, 57)]) :
    ∀ (h : ZH) (bc bs : Nat) (v2 : Int32) (q3 : Option Nat) (t0 : Int32), fc_X5_row_54 G o Q XE h bc bs v2 q3 t0 → ∀ (H : Heap) (locs : List Loc) (ls : Array Slot) (cells slots : Nat), cells + bc ≤ C ∧ slots + bs ≤ S → h0 = h → lv_has ls 5 [(0, .ref o), (2, .int v2), (3, va_rf q3)] → zc_H D cA P h s H locs → W p l e (zc_Ro 4 C S) s m args below meth c H locs cells slots (vx_MQ below (zc_Q D cA P (fun v h' => ∃ z : Option Nat, v = some (va_rf z) ∧ Q z ∧ h0 = h')) (zc_X D cA P XE) args s C S P) (F0 m 54 ls [.int t0]) := by
  have hx := X.1
  have hb := X.2.1
  have hown := X.2.2.2.1
  have hts := X.2.2.2.2.1
  intro h bc bs v2 q3 t0 hF
  intro H locs ls cells slots hB eh hl hH
  unfold fc_X5_row_54 at hF
  refine lv_bipush (v := (-2)) hx hb dX5_row_54 (by decide) ?_
  obtain ⟨c1, s2, hc1, hs1, hF⟩ := hF
  refine zc_call (c1 := c1) (s1 := s2) (rest := []) hH hB hc1 hs1 (fun hf => zc_rSN X hH (As := [.int t0, .int (-2)]) (host := "ChurchyardBook") (wc_X1_need X.2.2.2.2.2.2.2.1 hF) (lw_meth q265) (by decide +kernel) q87 q264 ⟨by decide, by decide, rfl⟩ ⟨Nat.le_of_ble_eq_true rfl, Nat.le_of_ble_eq_true rfl, Nat.le_of_ble_eq_true rfl⟩ rfl hl.1 (st0 := [.int (-2), .int t0]) rfl (Nat.le_of_ble_eq_true rfl) dX5_row_56 hf) (fun E9 ce9 q3 h4 H locs hx9 hH hB hce hcv hcl => ?_) (fun v9 h9 H locs hv9 hH hB => ?_)
  · exact zc_outP X hH hB hT (by decide) (nm := "java/lang/NullPointerException") q509 (Or.inl (by decide)) hce hcv hcl hx9
  obtain ⟨rfl, hF, rfl⟩ := hv9
  refine zq_aload_n hx hb dX5_row_59 rfl (lv_at hl 2 rfl) ?_
  obtain ⟨b5, eb5, hF⟩ := hF
  refine zq_st (st2 := [.ref b5]) (by rw [eb5]; first | done | rfl) ?_
  obtain ⟨hc, hF⟩ := hF
  refine zc_getf X hH hc 1 501 ("ChurchyardBook$Field", "rows", "[[LChurchyardBook$Place;", true) (by decide +kernel) (v := va_rf (zr h 501 b5)) rfl q365 (Or.inl rfl) dX5_row_60 ?_
  refine lv_iload_n hx hb dX5_row_63 rfl (lv_at hl 1 rfl) ?_
  obtain ⟨b6, eb6, hF⟩ := hF
  refine zq_st (st2 := [.int v2, .ref b6]) (by rw [eb6]; first | done | rfl) ?_
  obtain ⟨hc, hF⟩ := hF
  obtain ⟨hI, hF⟩ := hF
  refine zc_aald X hH [27] 7 hc (by decide) hI dX5_row_64 ?_
  refine zq_null (r := (zs h 7 b6 v2.toNatClampNeg)) (fun en => ?_) (fun b7 eb7 => ?_)
  · obtain ⟨hc1, hs1, hF⟩ := hF.1 en
    refine zx_npe X hH hB ⟨Nat.le_of_ble_eq_true rfl, Nat.le_of_ble_eq_true rfl⟩ hc1 hs1 hl.1 (Nat.le_of_ble_eq_true rfl) hT (by decide) (by decide) q509 dX5_row_65 (fun q8 H hH hB => ?_)
    have hF := hF q8
    exact wc_X5_row_82 X hN hT h ((bc - c1) - 1) ((bs - s2) - 1000) (some q8) hF _ _ _ _ _ hB eh (lv_sub hl [0] rfl) hH
  · obtain ⟨hc, hF⟩ := hF.2 b7 eb7
    refine zc_alen X hH hc dX5_row_65 ?_
    refine lv_if_lt (tgt := 73) hx hb dX5_row_66 (by decide) (fun cd => ?_) (fun cd => ?_)
    · have hF := hF.1 cd
      refine lv_iconst (v := 0) hx hb dX5_row_73 (by decide) ?_
      exact wc_X5_row_74 X hN hT h (bc - c1) (bs - s2) v2 q3 0 hF _ _ _ _ _ hB eh (lv_sub hl [0, 1, 2] rfl) hH
    · have hF := hF.2 cd
      refine lv_iconst (v := 1) hx hb dX5_row_69 (by decide) ?_
      refine lv_goto (tgt := 74) hx hb dX5_row_70 (by decide) ?_
      exact wc_X5_row_74 X hN hT h (bc - c1) (bs - s2) v2 q3 1 hF _ _ _ _ _ hB eh (lv_sub hl [0, 1, 2] rfl) hH
set_option maxHeartbeats 4000000 in
set_option maxRecDepth 100000 in
theorem wc_X5_row_53 {p : Program} {l : Launch} {e : Env} {s : State} {m : MethodId} {args : Array Value} {below : List Frame} {meth : Method} {c : Code} {D : va_G} {cA : Nat → ClassId} {P : Nat → Prop} {G : Nat × Nat × Nat} {C S : Nat} {o : Nat} {Q : Option Nat → Prop} {XE : String → Nat → ZH → Prop} {h0 : ZH} (X : zc_Cx p l s m args meth c cX5_row 5 (some (.array (.object "ChurchyardBook$Place"))) "ChurchyardBook$Book" D cA P G) (hN : meth.name = "row") (hT : c.exceptionTable.toList = tableOf [(59, 79, 82, 57)]) :
    ∀ (h : ZH) (bc bs : Nat) (v2 : Int32) (q3 : Option Nat), fc_X5_row_53 G o Q XE h bc bs v2 q3 → ∀ (H : Heap) (locs : List Loc) (ls : Array Slot) (cells slots : Nat), cells + bc ≤ C ∧ slots + bs ≤ S → h0 = h → lv_has ls 5 [(0, .ref o), (2, .int v2), (3, va_rf q3)] → zc_H D cA P h s H locs → W p l e (zc_Ro 4 C S) s m args below meth c H locs cells slots (vx_MQ below (zc_Q D cA P (fun v h' => ∃ z : Option Nat, v = some (va_rf z) ∧ Q z ∧ h0 = h')) (zc_X D cA P XE) args s C S P) (F0 m 53 ls []) := by
  have hx := X.1
  have hb := X.2.1
  have hown := X.2.2.2.1
  have hts := X.2.2.2.2.1
  intro h bc bs v2 q3 hF
  intro H locs ls cells slots hB eh hl hH
  unfold fc_X5_row_53 at hF
  refine lv_iconst (v := 0) hx hb dX5_row_53 (by decide) ?_
  exact wc_X5_row_54 X hN hT h bc bs v2 q3 0 hF _ _ _ _ _ hB eh (lv_sub hl [0, 1, 2] rfl) hH
set_option maxHeartbeats 4000000 in
set_option maxRecDepth 100000 in
theorem wc_X5_row_20 {p : Program} {l : Launch} {e : Env} {s : State} {m : MethodId} {args : Array Value} {below : List Frame} {meth : Method} {c : Code} {D : va_G} {cA : Nat → ClassId} {P : Nat → Prop} {G : Nat × Nat × Nat} {C S : Nat} {o : Nat} {Q : Option Nat → Prop} {XE : String → Nat → ZH → Prop} {h0 : ZH} (X : zc_Cx p l s m args meth c cX5_row 5 (some (.array (.object "ChurchyardBook$Place"))) "ChurchyardBook$Book" D cA P G) (hN : meth.name = "row") (hT : c.exceptionTable.toList = tableOf [(59, 79, 82, 57)]) :
    ∀ (h : ZH) (bc bs : Nat) (v1 : Int32) (v2 : Int32) (t0 : Int32), fc_X5_row_20 G o Q XE h bc bs v1 v2 t0 → ∀ (H : Heap) (locs : List Loc) (ls : Array Slot) (cells slots : Nat), cells + bc ≤ C ∧ slots + bs ≤ S → h0 = h → lv_has ls 5 [(0, .ref o), (1, .int v1), (2, .int v2)] → zc_H D cA P h s H locs → W p l e (zc_Ro 4 C S) s m args below meth c H locs cells slots (vx_MQ below (zc_Q D cA P (fun v h' => ∃ z : Option Nat, v = some (va_rf z) ∧ Q z ∧ h0 = h')) (zc_X D cA P XE) args s C S P) (F0 m 20 ls [.int t0]) := by
  have hx := X.1
  have hb := X.2.1
  have hown := X.2.2.2.1
  have hts := X.2.2.2.2.1
  intro h bc bs v1 v2 t0 hF
  intro H locs ls cells slots hB eh hl hH
  unfold fc_X5_row_20 at hF
  refine lv_bipush (v := (-2)) hx hb dX5_row_20 (by decide) ?_
  obtain ⟨c1, s2, hc1, hs1, hF⟩ := hF
  refine zc_call (c1 := c1) (s1 := s2) (rest := []) hH hB hc1 hs1 (fun hf => zc_rSN X hH (As := [.int t0, .int (-2)]) (host := "ChurchyardBook") (wc_X1_need X.2.2.2.2.2.2.2.1 hF) (lw_meth q265) (by decide +kernel) q87 q264 ⟨by decide, by decide, rfl⟩ ⟨Nat.le_of_ble_eq_true rfl, Nat.le_of_ble_eq_true rfl, Nat.le_of_ble_eq_true rfl⟩ rfl hl.1 (st0 := [.int (-2), .int t0]) rfl (Nat.le_of_ble_eq_true rfl) dX5_row_22 hf) (fun E9 ce9 q3 h4 H locs hx9 hH hB hce hcv hcl => ?_) (fun v9 h9 H locs hv9 hH hB => ?_)
  · exact zc_outP X hH hB hT (by decide) (nm := "java/lang/NullPointerException") q509 (Or.inl (by decide)) hce hcv hcl hx9
  obtain ⟨rfl, hF, rfl⟩ := hv9
  refine lv_aload_n hx hb dX5_row_25 rfl (lv_at hl 0 rfl) ?_
  obtain ⟨hc, hF⟩ := hF
  refine zc_getf X hH hc 0 200 ("ChurchyardBook$Book", "fields", "Ljava/util/ArrayList;", true) (by decide +kernel) (v := va_rf (zr h 200 o)) rfl q188 (Or.inl rfl) dX5_row_26 ?_
  refine lv_iload_n hx hb dX5_row_29 rfl (lv_at hl 1 rfl) ?_
  obtain ⟨b5, eb5, hF⟩ := hF
  refine zq_st (st2 := [.int v1, .ref b5]) (by rw [eb5]; first | done | rfl) ?_
  obtain ⟨hc, hF⟩ := hF
  refine zc_call (c1 := 0) (s1 := 0) (rest := []) hH hB (Nat.zero_le _) (Nat.zero_le _) (fun hf => zc_rV X hH hc (by decide) rfl (As := [.int v1]) (wc_J2_get X.2.2.2.2.2.2.2.1 hF) (lw_V q475 q476 q477 q94 q478) ⟨rfl, by decide, by decide, rfl⟩ ⟨Nat.le_of_ble_eq_true rfl, Nat.le_of_ble_eq_true rfl, Nat.le_of_ble_eq_true rfl⟩ rfl hl.1 (st0 := [.int v1, .ref b5]) rfl (Nat.le_of_ble_eq_true rfl) dX5_row_30 hf) (fun E9 ce9 q9 h9 H locs hx9 => False.elim hx9) (fun v9 h9 H locs hv9 hH hB => ?_)
  obtain ⟨r6, rfl, hF, rfl⟩ := hv9
  obtain ⟨hR, hF⟩ := hF
  refine zc_castY X hH (r := r6) [7] "ChurchyardBook$Field" hR (by decide) (by decide +kernel) q353 dX5_row_33 ?_
  refine zq_astore_n (r := r6) (lv' := [(3, va_rf r6), (0, .ref o), (1, .int v1), (2, .int v2)]) hx hb rfl dX5_row_36 rfl hl (by decide) rfl (fun ls hl => ?_)
  refine lv_iload_n hx hb dX5_row_37 rfl (lv_at hl 3 rfl) ?_
  refine lv_if_lt (tgt := 53) hx hb dX5_row_38 (by decide) (fun cd => ?_) (fun cd => ?_)
  · have hF := hF.1 cd
    exact wc_X5_row_53 X hN hT h (bc - c1) (bs - s2) v2 r6 hF _ _ _ _ _ hB eh (lv_sub hl [1, 3, 0] rfl) hH
  · have hF := hF.2 cd
    refine lv_iload_n hx hb dX5_row_41 rfl (lv_at hl 3 rfl) ?_
    refine zq_aload_n hx hb dX5_row_42 rfl (lv_at hl 0 rfl) ?_
    obtain ⟨b7, eb7, hF⟩ := hF
    refine zq_st (st2 := [.ref b7, .int v2]) (by rw [eb7]; first | done | rfl) ?_
    obtain ⟨hc, hF⟩ := hF
    refine zc_getf X hH hc 2 502 ("ChurchyardBook$Field", "many", "I", false) (by decide +kernel) (v := .int (zi h 502 b7)) rfl q367 (Or.inl rfl) dX5_row_43 ?_
    refine lv_icmp_ge (tgt := 53) hx hb dX5_row_46 (by decide) (fun cd => ?_) (fun cd => ?_)
    · have hF := hF.1 cd
      exact wc_X5_row_53 X hN hT h (bc - c1) (bs - s2) v2 r6 hF _ _ _ _ _ hB eh (lv_sub hl [1, 3, 0] rfl) hH
    · have hF := hF.2 cd
      refine lv_iconst (v := 1) hx hb dX5_row_49 (by decide) ?_
      refine lv_goto (tgt := 54) hx hb dX5_row_50 (by decide) ?_
      exact wc_X5_row_54 X hN hT h (bc - c1) (bs - s2) v2 r6 1 hF _ _ _ _ _ hB eh (lv_sub hl [1, 3, 0] rfl) hH
set_option maxHeartbeats 4000000 in
set_option maxRecDepth 100000 in
theorem wc_X5_row_19 {p : Program} {l : Launch} {e : Env} {s : State} {m : MethodId} {args : Array Value} {below : List Frame} {meth : Method} {c : Code} {D : va_G} {cA : Nat → ClassId} {P : Nat → Prop} {G : Nat × Nat × Nat} {C S : Nat} {o : Nat} {Q : Option Nat → Prop} {XE : String → Nat → ZH → Prop} {h0 : ZH} (X : zc_Cx p l s m args meth c cX5_row 5 (some (.array (.object "ChurchyardBook$Place"))) "ChurchyardBook$Book" D cA P G) (hN : meth.name = "row") (hT : c.exceptionTable.toList = tableOf [(59, 79, 82, 57)]) :
    ∀ (h : ZH) (bc bs : Nat) (v1 : Int32) (v2 : Int32), fc_X5_row_19 G o Q XE h bc bs v1 v2 → ∀ (H : Heap) (locs : List Loc) (ls : Array Slot) (cells slots : Nat), cells + bc ≤ C ∧ slots + bs ≤ S → h0 = h → lv_has ls 5 [(0, .ref o), (1, .int v1), (2, .int v2)] → zc_H D cA P h s H locs → W p l e (zc_Ro 4 C S) s m args below meth c H locs cells slots (vx_MQ below (zc_Q D cA P (fun v h' => ∃ z : Option Nat, v = some (va_rf z) ∧ Q z ∧ h0 = h')) (zc_X D cA P XE) args s C S P) (F0 m 19 ls []) := by
  have hx := X.1
  have hb := X.2.1
  have hown := X.2.2.2.1
  have hts := X.2.2.2.2.1
  intro h bc bs v1 v2 hF
  intro H locs ls cells slots hB eh hl hH
  unfold fc_X5_row_19 at hF
  refine lv_iconst (v := 0) hx hb dX5_row_19 (by decide) ?_
  exact wc_X5_row_20 X hN hT h bc bs v1 v2 0 hF _ _ _ _ _ hB eh (lv_sub hl [0, 1, 2] rfl) hH
set_option maxHeartbeats 4000000 in
set_option maxRecDepth 100000 in
theorem wc_X5_row {l : Launch} {D : va_G} {cA : Nat → ClassId} {P : Nat → Prop} {G : Nat × Nat × Nat} {o : Nat} {Q : Option Nat → Prop} {XE : String → Nat → ZH → Prop} {h : ZH} {C S : Nat} {v1 : Int32} {v2 : Int32} (hl9 : l.stackTraces = false) (hF : fc_X5_row G o Q XE h C S v1 v2) :
    zc_M l yX5_row (wsW_ yX5_row cX5_row 5 (some (.array (.object "ChurchyardBook$Place"))) [(59, 79, 82, 57)]) 4 D cA P G [.ref o, .int v1, .int v2] h C S (fun v h' => ∃ z : Option Nat, v = some (va_rf z) ∧ Q z ∧ h = h') XE := by
  refine zc_ofH [(59, 79, 82, 57)] hl9 rfl (by decide +kernel) (Nat.le_of_ble_eq_true rfl) ?_
  intro p e s m args below meth c H locs ls X hN hT hH hl
  have hx := X.1
  have hb := X.2.1
  have hown := X.2.2.2.1
  have hts := X.2.2.2.2.1
  have hl : lv_has ls 5 [(0, .ref o), (1, .int v1), (2, .int v2)] := hl
  have hB : 0 + C ≤ C ∧ 0 + S ≤ S := ⟨by omega, by omega⟩
  have eh : h = h := rfl
  unfold fc_X5_row at hF
  refine lv_iload_n hx hb dX5_row_0 rfl (lv_at hl 1 rfl) ?_
  refine lv_if_lt (tgt := 19) hx hb dX5_row_1 (by decide) (fun cd => ?_) (fun cd => ?_)
  · have hF := hF.1 cd
    exact wc_X5_row_19 X hN hT h C S v1 v2 hF _ _ _ _ _ hB eh (lv_sub hl [0, 1, 2] rfl) hH
  · have hF := hF.2 cd
    refine lv_iload_n hx hb dX5_row_4 rfl (lv_at hl 1 rfl) ?_
    refine lv_aload_n hx hb dX5_row_5 rfl (lv_at hl 0 rfl) ?_
    obtain ⟨hc, hF⟩ := hF
    refine zc_getf X hH hc 0 200 ("ChurchyardBook$Book", "fields", "Ljava/util/ArrayList;", true) (by decide +kernel) (v := va_rf (zr h 200 o)) rfl q188 (Or.inl rfl) dX5_row_6 ?_
    obtain ⟨b1, eb1, hF⟩ := hF
    refine zq_st (st2 := [.ref b1, .int v1]) (by rw [eb1]; first | done | rfl) ?_
    obtain ⟨hc, hF⟩ := hF
    refine zc_call (c1 := 0) (s1 := 0) (rest := [.int v1]) hH hB (Nat.zero_le _) (Nat.zero_le _) (fun hf => zc_rV X hH hc (by decide) rfl (As := []) (wc_J2_size X.2.2.2.2.2.2.2.1 hF) (lw_V q349 q350 q351 q94 q352) ⟨rfl, by decide, by decide, rfl⟩ ⟨Nat.le_of_ble_eq_true rfl, Nat.le_of_ble_eq_true rfl, Nat.le_of_ble_eq_true rfl⟩ rfl hl.1 (st0 := [.ref b1, .int v1]) rfl (Nat.le_of_ble_eq_true rfl) dX5_row_9 hf) (fun E9 ce9 q9 h9 H locs hx9 => False.elim hx9) (fun v9 h9 H locs hv9 hH hB => ?_)
    obtain ⟨z2, rfl, hF, rfl⟩ := hv9
    refine lv_icmp_ge (tgt := 19) hx hb dX5_row_12 (by decide) (fun cd => ?_) (fun cd => ?_)
    · have hF := hF.1 cd
      exact wc_X5_row_19 X hN hT h C S v1 v2 hF _ _ _ _ _ hB eh (lv_sub hl [0, 1, 2] rfl) hH
    · have hF := hF.2 cd
      refine lv_iconst (v := 1) hx hb dX5_row_15 (by decide) ?_
      refine lv_goto (tgt := 20) hx hb dX5_row_16 (by decide) ?_
      exact wc_X5_row_20 X hN hT h C S v1 v2 1 hF _ _ _ _ _ hB eh (lv_sub hl [0, 1, 2] rfl) hH
set_option maxHeartbeats 4000000 in
set_option maxRecDepth 100000 in
theorem wc_X5_tear_45 {p : Program} {l : Launch} {e : Env} {s : State} {m : MethodId} {args : Array Value} {below : List Frame} {meth : Method} {c : Code} {D : va_G} {cA : Nat → ClassId} {P : Nat → Prop} {G : Nat × Nat × Nat} {C S : Nat} {o : Nat} {Q : Int32 → ZH → Prop} {XE : String → Nat → ZH → Prop} {K18 : ZH → Nat → Nat → Int32 → Int32 → Option Nat → Int32 → Int32 → Prop} (X : zc_Cx p l s m args meth c cX5_tear 8 (some .int) "ChurchyardBook$Book" D cA P G) (hN : meth.name = "tear") (hT : c.exceptionTable.toList = tableOf []) (hK18 : ∀ (h : ZH) (bc bs : Nat) (v1 : Int32) (v2 : Int32) (q4 : Option Nat) (v5 : Int32) (v6 : Int32), K18 h bc bs v1 v2 q4 v5 v6 → ∀ (H : Heap) (locs : List Loc) (ls : Array Slot) (cells slots : Nat), cells + bc ≤ C ∧ slots + bs ≤ S → lv_has ls 8 [(0, .ref o), (1, .int v1), (2, .int v2), (4, va_rf q4), (5, .int v5), (6, .int v6)] → zc_H D cA P h s H locs → W p l e (zc_Ro 5 C S) s m args below meth c H locs cells slots (vx_MQ below (zc_Q D cA P (fun v h' => ∃ z : Int32, v = some (.int z) ∧ Q z h')) (zc_X D cA P XE) args s C S P) (F0 m 18 ls [])) :
    ∀ (h : ZH) (bc bs : Nat) (v1 : Int32) (v2 : Int32) (q4 : Option Nat) (v5 : Int32) (v6 : Int32) (t0 : Int32), fc_X5_tear_45 G o Q XE K18 h bc bs v1 v2 q4 v5 v6 t0 → ∀ (H : Heap) (locs : List Loc) (ls : Array Slot) (cells slots : Nat), cells + bc ≤ C ∧ slots + bs ≤ S → lv_has ls 8 [(0, .ref o), (1, .int v1), (2, .int v2), (4, va_rf q4), (5, .int v5), (6, .int v6)] → zc_H D cA P h s H locs → W p l e (zc_Ro 5 C S) s m args below meth c H locs cells slots (vx_MQ below (zc_Q D cA P (fun v h' => ∃ z : Int32, v = some (.int z) ∧ Q z h')) (zc_X D cA P XE) args s C S P) (F0 m 45 ls [.int t0]) := by
  have hx := X.1
  have hb := X.2.1
  have hown := X.2.2.2.1
  have hts := X.2.2.2.2.1
  intro h bc bs v1 v2 q4 v5 v6 t0 hF
  intro H locs ls cells slots hB hl hH
  unfold fc_X5_tear_45 at hF
  refine lv_bipush (v := (-6)) hx hb dX5_tear_45 (by decide) ?_
  obtain ⟨c1, s2, hc1, hs1, hF⟩ := hF
  refine zc_call (c1 := c1) (s1 := s2) (rest := []) hH hB hc1 hs1 (fun hf => zc_rSN X hH (As := [.int t0, .int (-6)]) (host := "ChurchyardBook") (wc_X1_need X.2.2.2.2.2.2.2.1 hF) (lw_meth q265) (by decide +kernel) q87 q264 ⟨by decide, by decide, rfl⟩ ⟨Nat.le_of_ble_eq_true rfl, Nat.le_of_ble_eq_true rfl, Nat.le_of_ble_eq_true rfl⟩ rfl hl.1 (st0 := [.int (-6), .int t0]) rfl (Nat.le_of_ble_eq_true rfl) dX5_tear_47 hf) (fun E9 ce9 q3 h4 H locs hx9 hH hB hce hcv hcl => ?_) (fun v9 h9 H locs hv9 hH hB => ?_)
  · exact zc_out X hH hB (by rw [hT]; intro x hx9; cases hx9) hce hcv hcl hx9
  obtain ⟨rfl, hF, rfl⟩ := hv9
  obtain ⟨x5, ex5⟩ : ∃ z : Int32, z = v6 + 1 := ⟨_, rfl⟩
  have hF := hF x5 ex5
  refine lv_iinc (v := x5) (lv' := [(6, .int x5), (0, .ref o), (1, .int v1), (2, .int v2), (4, va_rf q4), (5, .int v5)]) hx hb dX5_tear_50 hl (k := 5) rfl (by rw [ex5]; rfl) (by decide) rfl (fun ls hl => ?_)
  refine lv_goto (tgt := 18) hx hb dX5_tear_53 (by decide) ?_
  exact hK18 h (bc - c1) (bs - s2) v1 v2 q4 v5 x5 hF _ _ _ _ _ hB (lv_sub hl [1, 2, 3, 4, 5, 0] rfl) hH
set_option maxHeartbeats 4000000 in
set_option maxRecDepth 100000 in
theorem wc_X5_tear_18 {p : Program} {l : Launch} {e : Env} {s : State} {m : MethodId} {args : Array Value} {below : List Frame} {meth : Method} {c : Code} {D : va_G} {cA : Nat → ClassId} {P : Nat → Prop} {G : Nat × Nat × Nat} {C S : Nat} {o : Nat} {Q : Int32 → ZH → Prop} {XE : String → Nat → ZH → Prop} (X : zc_Cx p l s m args meth c cX5_tear 8 (some .int) "ChurchyardBook$Book" D cA P G) (hN : meth.name = "tear") (hT : c.exceptionTable.toList = tableOf []) :
    ∀ (n : Nat) (h : ZH) (bc bs : Nat) (v1 : Int32) (v2 : Int32) (q4 : Option Nat) (v5 : Int32) (v6 : Int32), fc_X5_tear_18 G o Q XE n h bc bs v1 v2 q4 v5 v6 → ∀ (H : Heap) (locs : List Loc) (ls : Array Slot) (cells slots : Nat), cells + bc ≤ C ∧ slots + bs ≤ S → lv_has ls 8 [(0, .ref o), (1, .int v1), (2, .int v2), (4, va_rf q4), (5, .int v5), (6, .int v6)] → zc_H D cA P h s H locs → W p l e (zc_Ro 5 C S) s m args below meth c H locs cells slots (vx_MQ below (zc_Q D cA P (fun v h' => ∃ z : Int32, v = some (.int z) ∧ Q z h')) (zc_X D cA P XE) args s C S P) (F0 m 18 ls []) := by
  have hx := X.1
  have hb := X.2.1
  have hown := X.2.2.2.1
  have hts := X.2.2.2.2.1
  intro n
  induction n with
  | zero =>
    intro h bc bs v1 v2 q4 v5 v6 hF
    exact False.elim hF
  | succ n ih =>
    intro h bc bs v1 v2 q4 v5 v6 hF
    intro H locs ls cells slots hB hl hH
    unfold fc_X5_tear_18 at hF
    refine lv_iload hx hb dX5_tear_18 (lv_at hl 5 rfl) ?_
    refine lv_iload hx hb dX5_tear_20 (lv_at hl 4 rfl) ?_
    refine lv_icmp_ge (tgt := 56) hx hb dX5_tear_22 (by decide) (fun cd => ?_) (fun cd => ?_)
    · have hF := hF.1 cd
      refine lv_aload_n hx hb dX5_tear_56 rfl (lv_at hl 0 rfl) ?_
      obtain ⟨hc, hF⟩ := hF
      refine zc_getf X hH hc 0 200 ("ChurchyardBook$Book", "fields", "Ljava/util/ArrayList;", true) (by decide +kernel) (v := va_rf (zr h 200 o)) rfl q188 (Or.inl rfl) dX5_tear_57 ?_
      refine lv_iload_n hx hb dX5_tear_60 rfl (lv_at hl 1 rfl) ?_
      obtain ⟨b1, eb1, hF⟩ := hF
      refine zq_st (st2 := [.int v1, .ref b1]) (by rw [eb1]; first | done | rfl) ?_
      obtain ⟨hc, hF⟩ := hF
      refine zc_call (c1 := 0) (s1 := 0) (rest := []) hH hB (Nat.zero_le _) (Nat.zero_le _) (fun hf => zc_rV X hH hc (by decide) rfl (As := [.int v1]) (wc_J2_get X.2.2.2.2.2.2.2.1 hF) (lw_V q475 q476 q477 q94 q478) ⟨rfl, by decide, by decide, rfl⟩ ⟨Nat.le_of_ble_eq_true rfl, Nat.le_of_ble_eq_true rfl, Nat.le_of_ble_eq_true rfl⟩ rfl hl.1 (st0 := [.int v1, .ref b1]) rfl (Nat.le_of_ble_eq_true rfl) dX5_tear_61 hf) (fun E9 ce9 q9 h9 H locs hx9 => False.elim hx9) (fun v9 h9 H locs hv9 hH hB => ?_)
      obtain ⟨r2, rfl, hF, rfl⟩ := hv9
      obtain ⟨hR, hF⟩ := hF
      refine zc_castY X hH (r := r2) [7] "ChurchyardBook$Field" hR (by decide) (by decide +kernel) q353 dX5_tear_64 ?_
      obtain ⟨b3, eb3, hF⟩ := hF
      refine zq_st (st2 := [.ref b3]) (by rw [eb3]; first | done | rfl) ?_
      obtain ⟨hc, hF⟩ := hF
      refine zc_getf X hH hc 1 501 ("ChurchyardBook$Field", "rows", "[[LChurchyardBook$Place;", true) (by decide +kernel) (v := va_rf (zr h 501 b3)) rfl q365 (Or.inl rfl) dX5_tear_67 ?_
      refine lv_iload_n hx hb dX5_tear_70 rfl (lv_at hl 2 rfl) ?_
      refine lv_null hx hb dX5_tear_71 ?_
      obtain ⟨b4, eb4, hF⟩ := hF
      refine zq_st (st2 := [.null, .int v2, .ref b4]) (by rw [eb4]; first | done | rfl) ?_
      obtain ⟨hc, hF⟩ := hF
      obtain ⟨hI, hF⟩ := hF
      obtain ⟨hR, hF⟩ := hF
      refine zc_aast X hH [27] 7 hc (by decide) (r := none) rfl hI hR dX5_tear_72 (fun h5 H locs eh5 hH => ?_)
      have hF := hF h5 eh5
      refine lv_iconst (v := 0) hx hb dX5_tear_73 (by decide) ?_
      exact zc_iret X hH hB rfl rfl ⟨_, rfl, hF⟩ dX5_tear_74
    · have hF := hF.2 cd
      refine zq_aload hx hb dX5_tear_25 (lv_at hl 3 rfl) ?_
      refine lv_iload hx hb dX5_tear_27 (lv_at hl 5 rfl) ?_
      obtain ⟨b6, eb6, hF⟩ := hF
      refine zq_st (st2 := [.int v6, .ref b6]) (by rw [eb6]; first | done | rfl) ?_
      obtain ⟨hc, hF⟩ := hF
      obtain ⟨hI, hF⟩ := hF
      refine zc_aald X hH [23, 24, 25, 26] 3 hc (by decide) hI dX5_tear_29 ?_
      refine zq_top (fun r7 er7 => ?_)
      have hF := hF r7 er7
      refine zq_astore (r := r7) (lv' := [(7, va_rf r7), (0, .ref o), (1, .int v1), (2, .int v2), (4, va_rf q4), (5, .int v5), (6, .int v6)]) hx hb rfl dX5_tear_30 hl (by decide) rfl (fun ls hl => ?_)
      refine zq_aload hx hb dX5_tear_32 (lv_at hl 0 rfl) ?_
      obtain ⟨hA, hF⟩ := hF
      refine zc_inst X hH (r := r7) [8, 9, 10, 11, 12, 13] [2, 3] "ChurchyardBook$Grave" hA (by decide) (by decide +kernel) (by decide +kernel) (by decide) q531 dX5_tear_34 ?_
      refine lv_if_ne (tgt := 44) hx hb dX5_tear_37 (by decide) (fun cd => ?_) (fun cd => ?_)
      · have hF := hF.1 cd
        refine lv_iconst (v := 0) hx hb dX5_tear_44 (by decide) ?_
        exact wc_X5_tear_45 X hN hT ih h bc bs v1 v2 q4 v5 v6 0 hF _ _ _ _ _ hB (lv_sub hl [1, 2, 3, 4, 5, 6] rfl) hH
      · have hF := hF.2 cd
        refine lv_iconst (v := 1) hx hb dX5_tear_40 (by decide) ?_
        refine lv_goto (tgt := 45) hx hb dX5_tear_41 (by decide) ?_
        exact wc_X5_tear_45 X hN hT ih h bc bs v1 v2 q4 v5 v6 1 hF _ _ _ _ _ hB (lv_sub hl [1, 2, 3, 4, 5, 6] rfl) hH
set_option maxHeartbeats 4000000 in
set_option maxRecDepth 100000 in
theorem wc_X5_tear {l : Launch} {D : va_G} {cA : Nat → ClassId} {P : Nat → Prop} {G : Nat × Nat × Nat} {o : Nat} {Q : Int32 → ZH → Prop} {XE : String → Nat → ZH → Prop} {h : ZH} {C S : Nat} {v1 : Int32} {v2 : Int32} (hl9 : l.stackTraces = false) (hF : fc_X5_tear G o Q XE h C S v1 v2) :
    zc_M l yX5_tear (ws_ yX5_tear cX5_tear 8 (some .int)) 5 D cA P G [.ref o, .int v1, .int v2] h C S (fun v h' => ∃ z : Int32, v = some (.int z) ∧ Q z h') XE := by
  refine zc_ofF hl9 rfl (by decide +kernel) (Nat.le_of_ble_eq_true rfl) ?_
  intro p e s m args below meth c H locs ls X hN hT hH hl
  have hx := X.1
  have hb := X.2.1
  have hown := X.2.2.2.1
  have hts := X.2.2.2.2.1
  have hl : lv_has ls 8 [(0, .ref o), (1, .int v1), (2, .int v2)] := hl
  have hB : 0 + C ≤ C ∧ 0 + S ≤ S := ⟨by omega, by omega⟩
  unfold fc_X5_tear at hF
  refine lv_aload_n hx hb dX5_tear_0 rfl (lv_at hl 0 rfl) ?_
  refine lv_iload_n hx hb dX5_tear_1 rfl (lv_at hl 1 rfl) ?_
  refine lv_iload_n hx hb dX5_tear_2 rfl (lv_at hl 2 rfl) ?_
  obtain ⟨hc, hF⟩ := hF
  obtain ⟨c1, s2, hc1, hs1, hF⟩ := hF
  refine zc_call (c1 := c1) (s1 := s2) (rest := []) hH hB hc1 hs1 (fun hf => zc_rVW X hH hc (by decide) rfl (As := [.int v1, .int v2]) (wc_X5_row X.2.2.2.2.2.2.2.1 hF) (lw_VW q505 q506 q507 q91 q508) ⟨rfl, by decide, by decide, rfl⟩ ⟨Nat.le_of_ble_eq_true rfl, Nat.le_of_ble_eq_true rfl, Nat.le_of_ble_eq_true rfl⟩ rfl hl.1 (st0 := [.int v2, .int v1, .ref o]) rfl (Nat.le_of_ble_eq_true rfl) dX5_tear_3 hf) (fun E9 ce9 q4 h5 H locs hx9 hH hB hce hcv hcl => ?_) (fun v9 h9 H locs hv9 hH hB => ?_)
  · exact zc_out X hH hB (by rw [hT]; intro x hx9; cases hx9) hce hcv hcl hx9
  obtain ⟨r3, rfl, hF, rfl⟩ := hv9
  refine zq_astore_n (r := r3) (lv' := [(3, va_rf r3), (0, .ref o), (1, .int v1), (2, .int v2)]) hx hb rfl dX5_tear_6 rfl hl (by decide) rfl (fun ls hl => ?_)
  refine zq_aload_n hx hb dX5_tear_7 rfl (lv_at hl 0 rfl) ?_
  refine zq_astore (r := r3) (lv' := [(4, va_rf r3), (3, va_rf r3), (0, .ref o), (1, .int v1), (2, .int v2)]) hx hb rfl dX5_tear_8 hl (by decide) (by cases r3 <;> rfl) (fun ls hl => ?_)
  refine zq_aload hx hb dX5_tear_10 (lv_at hl 0 rfl) ?_
  obtain ⟨b6, eb6, hF⟩ := hF
  refine zq_st (st2 := [.ref b6]) (by rw [eb6]; first | done | rfl) ?_
  obtain ⟨hc, hF⟩ := hF
  refine zc_alen X hH hc dX5_tear_12 ?_
  refine lv_topi (fun x7 ex7 => ?_)
  have hF := hF x7 ex7
  refine lv_istore (lv' := [(5, .int x7), (4, va_rf r3), (3, va_rf r3), (0, .ref o), (1, .int v1), (2, .int v2)]) hx hb dX5_tear_13 hl (by decide) (by cases r3 <;> rfl) (fun ls hl => ?_)
  refine lv_iconst (v := 0) hx hb dX5_tear_15 (by decide) ?_
  refine lv_istore (lv' := [(6, .int 0), (5, .int x7), (4, va_rf r3), (3, va_rf r3), (0, .ref o), (1, .int v1), (2, .int v2)]) hx hb dX5_tear_16 hl (by decide) rfl (fun ls hl => ?_)
  obtain ⟨n9, hF⟩ := hF
  exact wc_X5_tear_18 X hN hT n9 h (C - c1) (S - s2) v1 v2 r3 x7 0 hF _ _ _ _ _ hB (lv_sub hl [4, 5, 6, 2, 1, 0] rfl) hH
set_option maxHeartbeats 4000000 in
set_option maxRecDepth 100000 in
theorem wc_X5_at_4 {p : Program} {l : Launch} {e : Env} {s : State} {m : MethodId} {args : Array Value} {below : List Frame} {meth : Method} {c : Code} {D : va_G} {cA : Nat → ClassId} {P : Nat → Prop} {G : Nat × Nat × Nat} {C S : Nat} {o : Nat} {Q : Option Nat → Prop} {XE : String → Nat → ZH → Prop} {h0 : ZH} (X : zc_Cx p l s m args meth c cX5_at 4 (some (.object "ChurchyardBook$Place")) "ChurchyardBook$Book" D cA P G) (hN : meth.name = "at") (hT : c.exceptionTable.toList = tableOf [(0, 3, 4, 62)]) :
    ∀ (h : ZH) (bc bs : Nat) (u0 : Option Nat), fc_X5_at_4 G o Q XE h bc bs u0 → ∀ (H : Heap) (locs : List Loc) (ls : Array Slot) (cells slots : Nat), cells + bc ≤ C ∧ slots + bs ≤ S → h0 = h → lv_has ls 4 [(0, .ref o)] → zc_H D cA P h s H locs → W p l e (zc_Ro 3 C S) s m args below meth c H locs cells slots (vx_MQ below (zc_Q D cA P (fun v h' => ∃ z : Option Nat, v = some (va_rf z) ∧ Q z ∧ h0 = h')) (zc_X D cA P XE) args s C S P) (F0 m 4 ls [va_rf u0]) := by
  have hx := X.1
  have hb := X.2.1
  have hown := X.2.2.2.1
  have hts := X.2.2.2.2.1
  intro h bc bs u0 hF
  intro H locs ls cells slots hB eh hl hH
  unfold fc_X5_at_4 at hF
  refine zq_astore_n (r := u0) (lv' := [(3, va_rf u0), (0, .ref o)]) hx hb rfl dX5_at_4 rfl hl (by decide) rfl (fun ls hl => ?_)
  obtain ⟨hc1, hF⟩ := hF
  obtain ⟨hs1, hF⟩ := hF
  refine zc_new X hH hB (ci := 5) rfl (n := 7) q499 q266 q98 (by decide) hc1 hs1 dX5_at_5 (fun a1 h2 H hza1 eh2 hH hB => ?_)
  have hF := hF a1 h2 hza1 eh2
  refine lv_dup hx hb dX5_at_8 rfl ?_
  refine lv_bipush (v := (-4)) hx hb dX5_at_9 (by decide) ?_
  refine zc_call (c1 := 0) (s1 := 0) (rest := [.ref a1]) hH hB (Nat.zero_le _) (Nat.zero_le _) (fun hf => zc_rI X hH (As := [.int (-4)]) (wc_X7_init X.2.2.2.2.2.2.2.1 hF) (lw_meth q323) q500 q98 q322 rfl ⟨by decide, by decide, rfl⟩ ⟨Nat.le_of_ble_eq_true rfl, Nat.le_of_ble_eq_true rfl, Nat.le_of_ble_eq_true rfl⟩ rfl hl.1 (st0 := [.int (-4), .ref a1, .ref a1]) rfl (Nat.le_of_ble_eq_true rfl) dX5_at_11 hf) (fun E9 ce9 q9 h9 H locs hx9 => False.elim hx9) (fun v9 h3 H locs hv9 hH hB => ?_)
  obtain ⟨rfl, hF⟩ := hv9
  obtain ⟨hc, hF⟩ := hF
  obtain ⟨ce9, hce, hcv, hcl⟩ := zc_cell X hH (a := a1) (by rw [hc]; decide)
  rw [hc] at hcl
  refine vx_athrow hx hb dX5_at_14 ?_
  exact zc_outP X hH hB hT (by decide) (nm := "java/lang/ArrayIndexOutOfBoundsException") q540 (Or.inl (by decide)) hce hcv hcl hF
set_option maxHeartbeats 4000000 in
set_option maxRecDepth 100000 in
theorem wc_X5_at {l : Launch} {D : va_G} {cA : Nat → ClassId} {P : Nat → Prop} {G : Nat × Nat × Nat} {o : Nat} {Q : Option Nat → Prop} {XE : String → Nat → ZH → Prop} {h : ZH} {C S : Nat} {q1 : Option Nat} {v2 : Int32} (hl9 : l.stackTraces = false) (hF : fc_X5_at G o Q XE h C S q1 v2) :
    zc_M l yX5_at (wsW_ yX5_at cX5_at 4 (some (.object "ChurchyardBook$Place")) [(0, 3, 4, 62)]) 3 D cA P G [.ref o, va_rf q1, .int v2] h C S (fun v h' => ∃ z : Option Nat, v = some (va_rf z) ∧ Q z ∧ h = h') XE := by
  refine zc_ofH [(0, 3, 4, 62)] hl9 rfl (by decide +kernel) (zc_slle (by simp [zc_k1, zc_kI, zc_kR]) (Nat.le_of_ble_eq_true rfl)) ?_
  intro p e s m args below meth c H locs ls X hN hT hH hl
  have hx := X.1
  have hb := X.2.1
  have hown := X.2.2.2.1
  have hts := X.2.2.2.2.1
  have hl : lv_has ls 4 [(0, .ref o), (1, va_rf q1), (2, .int v2)] := by
    have h9 := hl
    rw [zc_ags _ (by simp [zc_k1, zc_kI, zc_kR]) 0] at h9
    exact h9
  have hB : 0 + C ≤ C ∧ 0 + S ≤ S := ⟨by omega, by omega⟩
  have eh : h = h := rfl
  unfold fc_X5_at at hF
  refine zq_aload_n hx hb dX5_at_0 rfl (lv_at hl 1 rfl) ?_
  refine lv_iload_n hx hb dX5_at_1 rfl (lv_at hl 2 rfl) ?_
  obtain ⟨b1, eb1, hF⟩ := hF
  refine zq_st (st2 := [.int v2, .ref b1]) (by rw [eb1]; first | done | rfl) ?_
  obtain ⟨hc, hF⟩ := hF
  by_cases hI : vp_in v2 (zl h b1)
  · have hF := hF.1 hI
    refine zc_aald X hH [23, 24, 25, 26] 3 hc (by decide) hI dX5_at_2 ?_
    exact zc_aret X hH hB rfl (by first | exact Or.inl ⟨_, rfl⟩ | exact Or.inr ⟨_, rfl⟩) (r := (zs h 3 b1 v2.toNatClampNeg)) rfl ⟨_, rfl, hF, eh⟩ dX5_at_3
  · obtain ⟨hI2, hc1, hs1, hF⟩ := hF.2 hI
    refine zx_aioobe X hH hB ⟨Nat.le_of_ble_eq_true rfl, Nat.le_of_ble_eq_true rfl⟩ hc1 hs1 hl.1 (Nat.le_of_ble_eq_true rfl) [23, 24, 25, 26] hc (by decide) hI hI2 hT (by decide) (by decide) q540 dX5_at_2 (fun q2 H hH hB => ?_)
    have hF := hF q2
    exact wc_X5_at_4 X hN hT h (C - 3) (S - 1010) (some q2) hF _ _ _ _ _ hB eh (lv_sub hl [0] rfl) hH
set_option maxHeartbeats 4000000 in
set_option maxRecDepth 100000 in
theorem wc_X5_isGrave_15 {p : Program} {l : Launch} {e : Env} {s : State} {m : MethodId} {args : Array Value} {below : List Frame} {meth : Method} {c : Code} {D : va_G} {cA : Nat → ClassId} {P : Nat → Prop} {G : Nat × Nat × Nat} {C S : Nat} {o : Nat} {Q : Int32 → Prop} {h0 : ZH} (X : zc_Cx p l s m args meth c cX5_isGrave 3 (some .boolean) "ChurchyardBook$Book" D cA P G) (hN : meth.name = "isGrave") (hT : c.exceptionTable.toList = tableOf [(0, 14, 15, 64)]) :
    ∀ (h : ZH) (bc bs : Nat) (u0 : Option Nat), fc_X5_isGrave_15 G o Q h bc bs u0 → ∀ (H : Heap) (locs : List Loc) (ls : Array Slot) (cells slots : Nat), cells + bc ≤ C ∧ slots + bs ≤ S → h0 = h → lv_has ls 3 [(0, .ref o)] → zc_H D cA P h s H locs → W p l e (zc_Ro 1 C S) s m args below meth c H locs cells slots (vx_MQ below (zc_Q D cA P (fun v h' => ∃ z : Int32, v = some (.int z) ∧ Q z ∧ h0 = h')) (zc_X D cA P zc_no) args s C S P) (F0 m 15 ls [va_rf u0]) := by
  have hx := X.1
  have hb := X.2.1
  have hown := X.2.2.2.1
  have hts := X.2.2.2.2.1
  intro h bc bs u0 hF
  intro H locs ls cells slots hB eh hl hH
  unfold fc_X5_isGrave_15 at hF
  refine zq_astore_n (r := u0) (lv' := [(2, va_rf u0), (0, .ref o)]) hx hb rfl dX5_isGrave_15 rfl hl (by decide) rfl (fun ls hl => ?_)
  refine lv_iconst (v := 0) hx hb dX5_isGrave_16 (by decide) ?_
  exact zc_iret X hH hB rfl rfl ⟨_, rfl, hF, eh⟩ dX5_isGrave_17
set_option maxHeartbeats 4000000 in
set_option maxRecDepth 100000 in
theorem wc_X5_isGrave {l : Launch} {D : va_G} {cA : Nat → ClassId} {P : Nat → Prop} {G : Nat × Nat × Nat} {o : Nat} {Q : Int32 → Prop} {h : ZH} {C S : Nat} {q1 : Option Nat} (hl9 : l.stackTraces = false) (hF : fc_X5_isGrave G o Q h C S q1) :
    zc_M l yX5_isGrave (wsW_ yX5_isGrave cX5_isGrave 3 (some .boolean) [(0, 14, 15, 64)]) 1 D cA P G [.ref o, va_rf q1] h C S (fun v h' => ∃ z : Int32, v = some (.int z) ∧ Q z ∧ h = h') zc_no := by
  refine zc_ofH [(0, 14, 15, 64)] hl9 rfl (by decide +kernel) (zc_slle (by simp [zc_k1, zc_kI, zc_kR]) (Nat.le_of_ble_eq_true rfl)) ?_
  intro p e s m args below meth c H locs ls X hN hT hH hl
  have hx := X.1
  have hb := X.2.1
  have hown := X.2.2.2.1
  have hts := X.2.2.2.2.1
  have hl : lv_has ls 3 [(0, .ref o), (1, va_rf q1)] := by
    have h9 := hl
    rw [zc_ags _ (by simp [zc_k1, zc_kI, zc_kR]) 0] at h9
    exact h9
  have hB : 0 + C ≤ C ∧ 0 + S ≤ S := ⟨by omega, by omega⟩
  have eh : h = h := rfl
  unfold fc_X5_isGrave at hF
  refine zq_aload_n hx hb dX5_isGrave_0 rfl (lv_at hl 1 rfl) ?_
  obtain ⟨hA, hF⟩ := hF
  by_cases hR : (∀ b9, q1 = some b9 → zt h b9 ∈ [8, 9, 10, 11, 12, 13])
  · have hF := hF.1 hR
    refine zc_castY X hH (r := q1) [8, 9, 10, 11, 12, 13] "ChurchyardBook$Grave" hR (by decide) (by decide +kernel) q531 dX5_isGrave_1 ?_
    refine zq_astore_n (r := q1) (lv' := [(2, va_rf q1), (0, .ref o), (1, va_rf q1)]) hx hb rfl dX5_isGrave_4 rfl hl (by decide) (by cases q1 <;> rfl) (fun ls hl => ?_)
    refine zq_aload_n hx hb dX5_isGrave_5 rfl (lv_at hl 0 rfl) ?_
    refine zq_ifnull (tgt := 13) hx hb dX5_isGrave_6 (by decide) (fun cd => ?_) (fun b1 eb1 => ?_)
    · have hF := hF.1 cd
      refine lv_iconst (v := 0) hx hb dX5_isGrave_13 (by decide) ?_
      exact zc_iret X hH hB rfl rfl ⟨_, rfl, hF, eh⟩ dX5_isGrave_14
    · have hF := hF.2 b1 eb1
      refine lv_iconst (v := 1) hx hb dX5_isGrave_9 (by decide) ?_
      refine lv_goto (tgt := 14) hx hb dX5_isGrave_10 (by decide) ?_
      exact zc_iret X hH hB rfl rfl ⟨_, rfl, hF, eh⟩ dX5_isGrave_14
  · obtain ⟨hc1, hs1, hF⟩ := hF.2 hR
    refine zx_cce X hH hB ⟨Nat.le_of_ble_eq_true rfl, Nat.le_of_ble_eq_true rfl⟩ hc1 hs1 hl.1 (Nat.le_of_ble_eq_true rfl) (r := q1) hA hR rfl (by decide +kernel) rfl q531 hT (by decide) (by decide) q563 dX5_isGrave_1 (fun q2 H hH hB => ?_)
    have hF := hF q2
    exact wc_X5_isGrave_15 X hN hT h (C - 3) (S - 1010) (some q2) hF _ _ _ _ _ hB eh (lv_sub hl [0] rfl) hH
set_option maxHeartbeats 4000000 in
set_option maxRecDepth 100000 in
theorem wc_X18_shunsTrees {l : Launch} {D : va_G} {cA : Nat → ClassId} {P : Nat → Prop} {G : Nat × Nat × Nat} {o : Nat} {Q : Int32 → Prop} {h : ZH} {C S : Nat} (hl9 : l.stackTraces = false) (hF : fc_X18_shunsTrees G o Q h) :
    zc_M l yX18_shunsTrees (ws_ yX18_shunsTrees cX18_shunsTrees 1 (some .boolean)) 1 D cA P G [.ref o] h C S (fun v h' => ∃ z : Int32, v = some (.int z) ∧ Q z ∧ h = h') zc_no := by
  refine zc_ofF hl9 rfl (by decide +kernel) (Nat.le_of_ble_eq_true rfl) ?_
  intro p e s m args below meth c H locs ls X hN hT hH hl
  have hx := X.1
  have hb := X.2.1
  have hown := X.2.2.2.1
  have hts := X.2.2.2.2.1
  have hl : lv_has ls 1 [(0, .ref o)] := hl
  have hB : 0 + 0 ≤ C ∧ 0 + 0 ≤ S := ⟨by omega, by omega⟩
  have eh : h = h := rfl
  unfold fc_X18_shunsTrees at hF
  refine lv_iconst (v := 1) hx hb dX18_shunsTrees_0 (by decide) ?_
  exact zc_iret X hH hB rfl rfl ⟨_, rfl, hF, eh⟩ dX18_shunsTrees_1
set_option maxHeartbeats 4000000 in
set_option maxRecDepth 100000 in
theorem wc_X13_shunsTrees {l : Launch} {D : va_G} {cA : Nat → ClassId} {P : Nat → Prop} {G : Nat × Nat × Nat} {o : Nat} {Q : Int32 → Prop} {h : ZH} {C S : Nat} (hl9 : l.stackTraces = false) (hF : fc_X13_shunsTrees G o Q h) :
    zc_M l yX13_shunsTrees (ws_ yX13_shunsTrees cX13_shunsTrees 1 (some .boolean)) 1 D cA P G [.ref o] h C S (fun v h' => ∃ z : Int32, v = some (.int z) ∧ Q z ∧ h = h') zc_no := by
  refine zc_ofF hl9 rfl (by decide +kernel) (Nat.le_of_ble_eq_true rfl) ?_
  intro p e s m args below meth c H locs ls X hN hT hH hl
  have hx := X.1
  have hb := X.2.1
  have hown := X.2.2.2.1
  have hts := X.2.2.2.2.1
  have hl : lv_has ls 1 [(0, .ref o)] := hl
  have hB : 0 + 0 ≤ C ∧ 0 + 0 ≤ S := ⟨by omega, by omega⟩
  have eh : h = h := rfl
  unfold fc_X13_shunsTrees at hF
  refine lv_iconst (v := 0) hx hb dX13_shunsTrees_0 (by decide) ?_
  exact zc_iret X hH hB rfl rfl ⟨_, rfl, hF, eh⟩ dX13_shunsTrees_1
set_option maxHeartbeats 1000000 in
theorem rv_shunsTrees_0 {p : Program} {l : Launch} {e : Env} {R : Room} {s : State} {m : MethodId} {args : Array Value} {below : List Frame} {meth : Method} {c : Code} {H : Heap} {locs : List Loc} {cells slots : Nat} {cc : ByteArray} {nL pc : Nat} {ret : Option FieldType} {own : String} {ls : Array Slot} {rest : List Value} {D : va_G} {cA : Nat → ClassId} {P : Nat → Prop} {G : Nat × Nat × Nat} {h : ZH} {C S a idx : Nat} {cnt : Nat} {Q : Int32 → Prop} (X : zc_Cx p l s m args meth c cc nL ret own D cA P G) (hH : zc_H D cA P h s H locs) (hlk : Cond.methodLink own idx ⟨"ChurchyardBook$Takes", "shunsTrees", "()Z"⟩ ∈ lw_all) (hF : fv_shunsTrees_0 G a Q h) (hR : zc_rm R 1 11) (hsize : ls.size = nL) {st0 : List Value} (hst : st0 = ([] : List Value).reverse ++ .ref a :: rest) (hcat : (rest.map fun v => v.category).sum ≤ 8) (hdg : decode cc pc = .ok (.invokeinterface idx cnt, 5)) (hf : cells + C ≤ R.cells ∧ slots + S ≤ R.slots) :
    vx_Run5 p l e R s m args below meth c H locs cells slots C S (F0 m pc ls st0) rest (zc_Q D cA P (fun v h' => ∃ z : Int32, v = some (.int z) ∧ Q z ∧ h = h') (Value.ref a :: []).toArray) (zc_X D cA P zc_no) P := by
  unfold fv_shunsTrees_0 at hF
  have hR9 := hR
  obtain ⟨hc, hF⟩ := hF
  simp only [List.mem_cons, List.not_mem_nil, or_false] at hc
  rcases hc with hc | hc | hc | hc | hc | hc
  · have hF := hF.1 (by rw [hc]; decide)
    exact zc_runID X hH hc (by decide) rfl (As := []) (wc_X18_shunsTrees X.2.2.2.2.2.2.2.1 hF).met (lw_meth q590) rfl rfl rfl ⟨by have := hR9.1; show _ + 8 + 1 ≤ _; omega, by have := hR9.2.2; show 8 + (_ + 11) + (10240 + 40 * _) ≤ _; omega⟩ hlk (by decide +kernel) (by decide +kernel) (by decide +kernel) (by decide +kernel) (by decide +kernel) (by decide) q588 q2245 rfl rfl hsize hst hcat hdg hf
  · have hF := hF.1 (by rw [hc]; decide)
    exact zc_runID X hH hc (by decide) rfl (As := []) (wc_X18_shunsTrees X.2.2.2.2.2.2.2.1 hF).met (lw_meth q590) rfl rfl rfl ⟨by have := hR9.1; show _ + 8 + 1 ≤ _; omega, by have := hR9.2.2; show 8 + (_ + 11) + (10240 + 40 * _) ≤ _; omega⟩ hlk (by decide +kernel) (by decide +kernel) (by decide +kernel) (by decide +kernel) (by decide +kernel) (by decide) q588 q2245 rfl rfl hsize hst hcat hdg hf
  · have hF := hF.1 (by rw [hc]; decide)
    exact zc_runID X hH hc (by decide) rfl (As := []) (wc_X18_shunsTrees X.2.2.2.2.2.2.2.1 hF).met (lw_meth q590) rfl rfl rfl ⟨by have := hR9.1; show _ + 8 + 1 ≤ _; omega, by have := hR9.2.2; show 8 + (_ + 11) + (10240 + 40 * _) ≤ _; omega⟩ hlk (by decide +kernel) (by decide +kernel) (by decide +kernel) (by decide +kernel) (by decide +kernel) (by decide) q588 q2245 rfl rfl hsize hst hcat hdg hf
  · have hF := hF.2 (by rw [hc]; decide)
    exact zc_rF X hH hc (by decide) (by decide) rfl (As := []) (wc_X13_shunsTrees X.2.2.2.2.2.2.2.1 hF) (lw_F hlk q604 q598 q118 q600) (by decide +kernel) ⟨by decide, by decide, rfl⟩ (zc_rm_le hR9 (by decide) (by decide)) rfl hsize hst hcat hdg hf
  · have hF := hF.2 (by rw [hc]; decide)
    exact zc_rF X hH hc (by decide) (by decide) rfl (As := []) (wc_X13_shunsTrees X.2.2.2.2.2.2.2.1 hF) (lw_F hlk q596 q598 q118 q600) (by decide +kernel) ⟨by decide, by decide, rfl⟩ (zc_rm_le hR9 (by decide) (by decide)) rfl hsize hst hcat hdg hf
  · have hF := hF.1 (by rw [hc]; decide)
    exact zc_runID X hH hc (by decide) rfl (As := []) (wc_X18_shunsTrees X.2.2.2.2.2.2.2.1 hF).met (lw_meth q590) rfl rfl rfl ⟨by have := hR9.1; show _ + 8 + 1 ≤ _; omega, by have := hR9.2.2; show 8 + (_ + 11) + (10240 + 40 * _) ≤ _; omega⟩ hlk (by decide +kernel) (by decide +kernel) (by decide +kernel) (by decide +kernel) (by decide +kernel) (by decide) q588 q2245 rfl rfl hsize hst hcat hdg hf
set_option maxHeartbeats 4000000 in
set_option maxRecDepth 100000 in
theorem wc_X5_shuns {l : Launch} {D : va_G} {cA : Nat → ClassId} {P : Nat → Prop} {G : Nat × Nat × Nat} {o : Nat} {Q : Int32 → Prop} {h : ZH} {C S : Nat} {q1 : Option Nat} {v2 : Int32} (hl9 : l.stackTraces = false) (hF : fc_X5_shuns G o Q h q1 v2) :
    zc_M l yX5_shuns (ws_ yX5_shuns cX5_shuns 3 (some .boolean)) 2 D cA P G [.ref o, va_rf q1, .int v2] h C S (fun v h' => ∃ z : Int32, v = some (.int z) ∧ Q z ∧ h = h') zc_no := by
  refine zc_ofF hl9 rfl (by decide +kernel) (zc_slle (by simp [zc_k1, zc_kI, zc_kR]) (Nat.le_of_ble_eq_true rfl)) ?_
  intro p e s m args below meth c H locs ls X hN hT hH hl
  have hx := X.1
  have hb := X.2.1
  have hown := X.2.2.2.1
  have hts := X.2.2.2.2.1
  have hl : lv_has ls 3 [(0, .ref o), (1, va_rf q1), (2, .int v2)] := by
    have h9 := hl
    rw [zc_ags _ (by simp [zc_k1, zc_kI, zc_kR]) 0] at h9
    exact h9
  have hB : 0 + 0 ≤ C ∧ 0 + 0 ≤ S := ⟨by omega, by omega⟩
  have eh : h = h := rfl
  unfold fc_X5_shuns at hF
  refine lv_iload_n hx hb dX5_shuns_0 rfl (lv_at hl 2 rfl) ?_
  refine lv_if_lt (tgt := 37) hx hb dX5_shuns_1 (by decide) (fun cd => ?_) (fun cd => ?_)
  · have hF := hF.1 cd
    refine lv_iconst (v := 0) hx hb dX5_shuns_37 (by decide) ?_
    exact zc_iret X hH hB rfl rfl ⟨_, rfl, hF, eh⟩ dX5_shuns_38
  · have hF := hF.2 cd
    refine lv_iload_n hx hb dX5_shuns_4 rfl (lv_at hl 2 rfl) ?_
    refine zq_aload_n hx hb dX5_shuns_5 rfl (lv_at hl 1 rfl) ?_
    obtain ⟨b1, eb1, hF⟩ := hF
    refine zq_st (st2 := [.ref b1, .int v2]) (by rw [eb1]; first | done | rfl) ?_
    obtain ⟨hc, hF⟩ := hF
    refine zc_alen X hH hc dX5_shuns_6 ?_
    refine lv_icmp_ge (tgt := 37) hx hb dX5_shuns_7 (by decide) (fun cd => ?_) (fun cd => ?_)
    · have hF := hF.1 cd
      refine lv_iconst (v := 0) hx hb dX5_shuns_37 (by decide) ?_
      exact zc_iret X hH hB rfl rfl ⟨_, rfl, hF, eh⟩ dX5_shuns_38
    · have hF := hF.2 cd
      refine zq_aload_n hx hb dX5_shuns_10 rfl (lv_at hl 1 rfl) ?_
      refine lv_iload_n hx hb dX5_shuns_11 rfl (lv_at hl 2 rfl) ?_
      refine zq_st (st2 := [.int v2, .ref b1]) (by rw [eb1]; first | done | rfl) ?_
      obtain ⟨hc, hF⟩ := hF
      obtain ⟨hI, hF⟩ := hF
      refine zc_aald X hH [23, 24, 25, 26] 3 hc (by decide) hI dX5_shuns_12 ?_
      obtain ⟨hA, hF⟩ := hF
      refine zc_inst X hH (r := (zs h 3 b1 v2.toNatClampNeg)) [8, 9, 10, 11, 12, 13] [2, 3] "ChurchyardBook$Takes" hA (by decide) (by decide +kernel) (by decide +kernel) (by decide) q581 dX5_shuns_13 ?_
      refine lv_if_eq (tgt := 37) hx hb dX5_shuns_16 (by decide) (fun cd => ?_) (fun cd => ?_)
      · have hF := hF.1 cd
        refine lv_iconst (v := 0) hx hb dX5_shuns_37 (by decide) ?_
        exact zc_iret X hH hB rfl rfl ⟨_, rfl, hF, eh⟩ dX5_shuns_38
      · have hF := hF.2 cd
        refine zq_aload_n hx hb dX5_shuns_19 rfl (lv_at hl 1 rfl) ?_
        refine lv_iload_n hx hb dX5_shuns_20 rfl (lv_at hl 2 rfl) ?_
        refine zq_st (st2 := [.int v2, .ref b1]) (by rw [eb1]; first | done | rfl) ?_
        obtain ⟨hc, hF⟩ := hF
        obtain ⟨hI, hF⟩ := hF
        refine zc_aald X hH [23, 24, 25, 26] 3 hc (by decide) hI dX5_shuns_21 ?_
        obtain ⟨hR, hF⟩ := hF
        refine zc_castY X hH (r := (zs h 3 b1 v2.toNatClampNeg)) [8, 9, 10, 11, 12, 13] "ChurchyardBook$Takes" hR (by decide) (by decide +kernel) q581 dX5_shuns_22 ?_
        obtain ⟨b2, eb2, hF⟩ := hF
        refine zq_st (st2 := [.ref b2]) (by rw [eb2]; first | done | rfl) ?_
        refine zc_call5 (c1 := 0) (s1 := 0) (rest := []) hH hB (Nat.zero_le _) (Nat.zero_le _) (fun hf => rv_shunsTrees_0 X hH q583 hF ⟨Nat.le_of_ble_eq_true rfl, Nat.le_of_ble_eq_true rfl, Nat.le_of_ble_eq_true rfl⟩ hl.1 (st0 := [.ref b2]) rfl (Nat.le_of_ble_eq_true rfl) dX5_shuns_25 hf) (fun v9 h9 H locs hv9 hH hB => ?_)
        obtain ⟨z3, rfl, hF, rfl⟩ := hv9
        refine lv_if_eq (tgt := 37) hx hb dX5_shuns_30 (by decide) (fun cd => ?_) (fun cd => ?_)
        · have hF := hF.1 cd
          refine lv_iconst (v := 0) hx hb dX5_shuns_37 (by decide) ?_
          exact zc_iret X hH hB rfl rfl ⟨_, rfl, hF, eh⟩ dX5_shuns_38
        · have hF := hF.2 cd
          refine lv_iconst (v := 1) hx hb dX5_shuns_33 (by decide) ?_
          refine lv_goto (tgt := 38) hx hb dX5_shuns_34 (by decide) ?_
          exact zc_iret X hH hB rfl rfl ⟨_, rfl, hF, eh⟩ dX5_shuns_38
set_option maxHeartbeats 4000000 in
set_option maxRecDepth 100000 in
theorem wc_X5_store_26 {p : Program} {l : Launch} {e : Env} {s : State} {m : MethodId} {args : Array Value} {below : List Frame} {meth : Method} {c : Code} {D : va_G} {cA : Nat → ClassId} {P : Nat → Prop} {G : Nat × Nat × Nat} {C S : Nat} {o : Nat} {Q : ZH → Prop} {XE : String → Nat → ZH → Prop} (X : zc_Cx p l s m args meth c cX5_store 6 none "ChurchyardBook$Book" D cA P G) (hN : meth.name = "store") (hT : c.exceptionTable.toList = tableOf [(0, 23, 26, 74)]) :
    ∀ (h : ZH) (bc bs : Nat) (u0 : Option Nat), fc_X5_store_26 G o Q XE h bc bs u0 → ∀ (H : Heap) (locs : List Loc) (ls : Array Slot) (cells slots : Nat), cells + bc ≤ C ∧ slots + bs ≤ S → lv_has ls 6 [(0, .ref o)] → zc_H D cA P h s H locs → W p l e (zc_Ro 3 C S) s m args below meth c H locs cells slots (vx_MQ below (zc_Q D cA P (fun v h' => v = none ∧ Q h')) (zc_X D cA P XE) args s C S P) (F0 m 26 ls [va_rf u0]) := by
  have hx := X.1
  have hb := X.2.1
  have hown := X.2.2.2.1
  have hts := X.2.2.2.2.1
  intro h bc bs u0 hF
  intro H locs ls cells slots hB hl hH
  unfold fc_X5_store_26 at hF
  refine zq_astore (r := u0) (lv' := [(5, va_rf u0), (0, .ref o)]) hx hb rfl dX5_store_26 hl (by decide) rfl (fun ls hl => ?_)
  obtain ⟨hc1, hF⟩ := hF
  obtain ⟨hs1, hF⟩ := hF
  refine zc_new X hH hB (ci := 5) rfl (n := 7) q499 q266 q98 (by decide) hc1 hs1 dX5_store_28 (fun a1 h2 H hza1 eh2 hH hB => ?_)
  have hF := hF a1 h2 hza1 eh2
  refine lv_dup hx hb dX5_store_31 rfl ?_
  refine lv_bipush (v := (-8)) hx hb dX5_store_32 (by decide) ?_
  refine zc_call (c1 := 0) (s1 := 0) (rest := [.ref a1]) hH hB (Nat.zero_le _) (Nat.zero_le _) (fun hf => zc_rI X hH (As := [.int (-8)]) (wc_X7_init X.2.2.2.2.2.2.2.1 hF) (lw_meth q323) q500 q98 q322 rfl ⟨by decide, by decide, rfl⟩ ⟨Nat.le_of_ble_eq_true rfl, Nat.le_of_ble_eq_true rfl, Nat.le_of_ble_eq_true rfl⟩ rfl hl.1 (st0 := [.int (-8), .ref a1, .ref a1]) rfl (Nat.le_of_ble_eq_true rfl) dX5_store_34 hf) (fun E9 ce9 q9 h9 H locs hx9 => False.elim hx9) (fun v9 h3 H locs hv9 hH hB => ?_)
  obtain ⟨rfl, hF⟩ := hv9
  obtain ⟨hc, hF⟩ := hF
  obtain ⟨ce9, hce, hcv, hcl⟩ := zc_cell X hH (a := a1) (by rw [hc]; decide)
  rw [hc] at hcl
  refine vx_athrow hx hb dX5_store_37 ?_
  exact zc_outP X hH hB hT (by decide) (nm := "java/lang/ArrayStoreException") q610 (Or.inl (by decide)) hce hcv hcl hF
set_option maxHeartbeats 4000000 in
set_option maxRecDepth 100000 in
theorem wc_X5_store_3 {p : Program} {l : Launch} {e : Env} {s : State} {m : MethodId} {args : Array Value} {below : List Frame} {meth : Method} {c : Code} {D : va_G} {cA : Nat → ClassId} {P : Nat → Prop} {G : Nat × Nat × Nat} {C S : Nat} {o : Nat} {Q : ZH → Prop} {XE : String → Nat → ZH → Prop} (X : zc_Cx p l s m args meth c cX5_store 6 none "ChurchyardBook$Book" D cA P G) (hN : meth.name = "store") (hT : c.exceptionTable.toList = tableOf [(0, 23, 26, 74)]) :
    ∀ (n : Nat) (h : ZH) (bc bs : Nat) (q1 : Option Nat) (v2 : Int32) (v3 : Int32) (q4 : Option Nat) (v5 : Int32), fc_X5_store_3 G o Q XE n h bc bs q1 v2 v3 q4 v5 → ∀ (H : Heap) (locs : List Loc) (ls : Array Slot) (cells slots : Nat), cells + bc ≤ C ∧ slots + bs ≤ S → lv_has ls 6 [(0, .ref o), (1, va_rf q1), (2, .int v2), (3, .int v3), (4, va_rf q4), (5, .int v5)] → zc_H D cA P h s H locs → W p l e (zc_Ro 3 C S) s m args below meth c H locs cells slots (vx_MQ below (zc_Q D cA P (fun v h' => v = none ∧ Q h')) (zc_X D cA P XE) args s C S P) (F0 m 3 ls []) := by
  have hx := X.1
  have hb := X.2.1
  have hown := X.2.2.2.1
  have hts := X.2.2.2.2.1
  intro n
  induction n with
  | zero =>
    intro h bc bs q1 v2 v3 q4 v5 hF
    exact False.elim hF
  | succ n ih =>
    intro h bc bs q1 v2 v3 q4 v5 hF
    intro H locs ls cells slots hB hl hH
    unfold fc_X5_store_3 at hF
    refine lv_iload hx hb dX5_store_3 (lv_at hl 5 rfl) ?_
    refine lv_iload_n hx hb dX5_store_5 rfl (lv_at hl 2 rfl) ?_
    refine lv_iload_n hx hb dX5_store_6 rfl (lv_at hl 3 rfl) ?_
    refine lv_iadd hx hb dX5_store_7 ?_
    refine lv_icmp_ge (tgt := 23) hx hb dX5_store_8 (by decide) (fun cd => ?_) (fun cd => ?_)
    · have hF := hF.1 cd
      refine lv_goto (tgt := 38) hx hb dX5_store_23 (by decide) ?_
      exact zc_vret X hH hB rfl ⟨rfl, hF⟩ dX5_store_38
    · have hF := hF.2 cd
      refine zq_aload_n hx hb dX5_store_11 rfl (lv_at hl 1 rfl) ?_
      refine lv_iload hx hb dX5_store_12 (lv_at hl 5 rfl) ?_
      refine zq_aload hx hb dX5_store_14 (lv_at hl 4 rfl) ?_
      obtain ⟨b1, eb1, hF⟩ := hF
      refine zq_st (st2 := [va_rf q4, .int v5, .ref b1]) (by rw [eb1]; first | done | rfl) ?_
      obtain ⟨hc, hF⟩ := hF
      obtain ⟨hI, hF⟩ := hF
      obtain ⟨hA, hF⟩ := hF
      by_cases hR : (∀ b9, q4 = some b9 → zt h b9 ∈ zas (zt h b1 - 20))
      · have hF := hF.1 hR
        refine zc_aast X hH [23, 24, 25, 26] 3 hc (by decide) (r := q4) rfl hI hR dX5_store_16 (fun h2 H locs eh2 hH => ?_)
        have hF := hF h2 eh2
        obtain ⟨x3, ex3⟩ : ∃ z : Int32, z = v5 + 1 := ⟨_, rfl⟩
        have hF := hF x3 ex3
        refine lv_iinc (v := x3) (lv' := [(5, .int x3), (0, .ref o), (1, va_rf q1), (2, .int v2), (3, .int v3), (4, va_rf q4)]) hx hb dX5_store_17 hl (k := 5) rfl (by rw [ex3]; rfl) (by decide) (by cases q4 <;> rfl) (fun ls hl => ?_)
        refine lv_goto (tgt := 3) hx hb dX5_store_20 (by decide) ?_
        exact ih h2 bc bs q1 v2 v3 q4 x3 hF _ _ _ _ _ hB (lv_sub hl [1, 2, 3, 4, 5, 0] rfl) hH
      · obtain ⟨hc1, hs1, hF⟩ := hF.2 hR
        refine zx_ase X hH hB ⟨Nat.le_of_ble_eq_true rfl, Nat.le_of_ble_eq_true rfl⟩ hc1 hs1 hl.1 (Nat.le_of_ble_eq_true rfl) hc (r := q4) rfl hI hA hR hT (by decide) (by decide) q610 dX5_store_16 (fun q4 H hH hB => ?_)
        have hF := hF q4
        exact wc_X5_store_26 X hN hT h (bc - 3) (bs - 1010) (some q4) hF _ _ _ _ _ hB (lv_sub hl [0] rfl) hH
set_option maxHeartbeats 4000000 in
set_option maxRecDepth 100000 in
theorem wc_X5_store {l : Launch} {D : va_G} {cA : Nat → ClassId} {P : Nat → Prop} {G : Nat × Nat × Nat} {o : Nat} {Q : ZH → Prop} {XE : String → Nat → ZH → Prop} {h : ZH} {C S : Nat} {q1 : Option Nat} {v2 : Int32} {v3 : Int32} {q4 : Option Nat} (hl9 : l.stackTraces = false) (hF : fc_X5_store G o Q XE h C S q1 v2 v3 q4) :
    zc_M l yX5_store (wsW_ yX5_store cX5_store 6 none [(0, 23, 26, 74)]) 3 D cA P G [.ref o, va_rf q1, .int v2, .int v3, va_rf q4] h C S (fun v h' => v = none ∧ Q h') XE := by
  refine zc_ofH [(0, 23, 26, 74)] hl9 rfl (by decide +kernel) (zc_slle (by simp [zc_k1, zc_kI, zc_kR]) (Nat.le_of_ble_eq_true rfl)) ?_
  intro p e s m args below meth c H locs ls X hN hT hH hl
  have hx := X.1
  have hb := X.2.1
  have hown := X.2.2.2.1
  have hts := X.2.2.2.2.1
  have hl : lv_has ls 6 [(0, .ref o), (1, va_rf q1), (2, .int v2), (3, .int v3), (4, va_rf q4)] := by
    have h9 := hl
    rw [zc_ags _ (by simp [zc_k1, zc_kI, zc_kR]) 0] at h9
    exact h9
  have hB : 0 + C ≤ C ∧ 0 + S ≤ S := ⟨by omega, by omega⟩
  unfold fc_X5_store at hF
  refine lv_iload_n hx hb dX5_store_0 rfl (lv_at hl 2 rfl) ?_
  refine lv_istore (lv' := [(5, .int v2), (0, .ref o), (1, va_rf q1), (2, .int v2), (3, .int v3), (4, va_rf q4)]) hx hb dX5_store_1 hl (by decide) (by cases q4 <;> rfl) (fun ls hl => ?_)
  obtain ⟨n9, hF⟩ := hF
  exact wc_X5_store_3 X hN hT n9 h C S q1 v2 v3 q4 v2 hF _ _ _ _ _ hB (lv_sub hl [1, 2, 3, 4, 5, 0] rfl) hH
set_option maxHeartbeats 4000000 in
set_option maxRecDepth 100000 in
theorem wc_X5_place_133 {p : Program} {l : Launch} {e : Env} {s : State} {m : MethodId} {args : Array Value} {below : List Frame} {meth : Method} {c : Code} {D : va_G} {cA : Nat → ClassId} {P : Nat → Prop} {G : Nat × Nat × Nat} {C S : Nat} {o : Nat} {Q : Int32 → ZH → Prop} {XE : String → Nat → ZH → Prop} (X : zc_Cx p l s m args meth c cX5_place 7 (some .int) "ChurchyardBook$Book" D cA P G) (hN : meth.name = "place") (hT : c.exceptionTable.toList = tableOf []) :
    ∀ (h : ZH) (bc bs : Nat) (u1 : Option Nat) (t2 : Int32) (t3 : Int32) (u4 : Option Nat), fc_X5_place_133 G o Q XE h bc bs u1 t2 t3 u4 → ∀ (H : Heap) (locs : List Loc) (ls : Array Slot) (cells slots : Nat), cells + bc ≤ C ∧ slots + bs ≤ S → lv_has ls 7 [(0, .ref o)] → zc_H D cA P h s H locs → W p l e (zc_Ro 5 C S) s m args below meth c H locs cells slots (vx_MQ below (zc_Q D cA P (fun v h' => ∃ z : Int32, v = some (.int z) ∧ Q z h')) (zc_X D cA P XE) args s C S P) (F0 m 133 ls [va_rf u4, .int t3, .int t2, va_rf u1, .ref o]) := by
  have hx := X.1
  have hb := X.2.1
  have hown := X.2.2.2.1
  have hts := X.2.2.2.2.1
  intro h bc bs u1 t2 t3 u4 hF
  intro H locs ls cells slots hB hl hH
  unfold fc_X5_place_133 at hF
  obtain ⟨hc, hF⟩ := hF
  obtain ⟨c1, s2, hc1, hs1, hF⟩ := hF
  refine zc_call (c1 := c1) (s1 := s2) (rest := []) hH hB hc1 hs1 (fun hf => zc_rVW X hH hc (by decide) rfl (As := [va_rf u1, .int t2, .int t3, va_rf u4]) (wc_X5_store X.2.2.2.2.2.2.2.1 hF) (lw_VW q606 q608 qs7 q91 q609) ⟨rfl, by decide, by decide, rfl⟩ ⟨Nat.le_of_ble_eq_true rfl, Nat.le_of_ble_eq_true rfl, Nat.le_of_ble_eq_true rfl⟩ rfl hl.1 (st0 := [va_rf u4, .int t3, .int t2, va_rf u1, .ref o]) rfl (Nat.le_of_ble_eq_true rfl) dX5_place_133 hf) (fun E9 ce9 q4 h5 H locs hx9 hH hB hce hcv hcl => ?_) (fun v9 h3 H locs hv9 hH hB => ?_)
  · exact zc_out X hH hB (by rw [hT]; intro x hx9; cases hx9) hce hcv hcl hx9
  obtain ⟨rfl, hF⟩ := hv9
  refine lv_iconst (v := 0) hx hb dX5_place_136 (by decide) ?_
  exact zc_iret X hH hB rfl rfl ⟨_, rfl, hF⟩ dX5_place_137
set_option maxHeartbeats 4000000 in
set_option maxRecDepth 100000 in
theorem wc_X5_place_91 {p : Program} {l : Launch} {e : Env} {s : State} {m : MethodId} {args : Array Value} {below : List Frame} {meth : Method} {c : Code} {D : va_G} {cA : Nat → ClassId} {P : Nat → Prop} {G : Nat × Nat × Nat} {C S : Nat} {o : Nat} {Q : Int32 → ZH → Prop} {XE : String → Nat → ZH → Prop} (X : zc_Cx p l s m args meth c cX5_place 7 (some .int) "ChurchyardBook$Book" D cA P G) (hN : meth.name = "place") (hT : c.exceptionTable.toList = tableOf []) :
    ∀ (h : ZH) (bc bs : Nat) (v3 : Int32) (v4 : Int32) (q5 : Option Nat) (t0 : Int32), fc_X5_place_91 G o Q XE h bc bs v3 v4 q5 t0 → ∀ (H : Heap) (locs : List Loc) (ls : Array Slot) (cells slots : Nat), cells + bc ≤ C ∧ slots + bs ≤ S → lv_has ls 7 [(0, .ref o), (3, .int v3), (4, .int v4), (5, va_rf q5)] → zc_H D cA P h s H locs → W p l e (zc_Ro 5 C S) s m args below meth c H locs cells slots (vx_MQ below (zc_Q D cA P (fun v h' => ∃ z : Int32, v = some (.int z) ∧ Q z h')) (zc_X D cA P XE) args s C S P) (F0 m 91 ls [.int t0]) := by
  have hx := X.1
  have hb := X.2.1
  have hown := X.2.2.2.1
  have hts := X.2.2.2.2.1
  intro h bc bs v3 v4 q5 t0 hF
  intro H locs ls cells slots hB hl hH
  unfold fc_X5_place_91 at hF
  refine lv_bipush (v := (-7)) hx hb dX5_place_91 (by decide) ?_
  obtain ⟨c1, s2, hc1, hs1, hF⟩ := hF
  refine zc_call (c1 := c1) (s1 := s2) (rest := []) hH hB hc1 hs1 (fun hf => zc_rSN X hH (As := [.int t0, .int (-7)]) (host := "ChurchyardBook") (wc_X1_need X.2.2.2.2.2.2.2.1 hF) (lw_meth q265) (by decide +kernel) q87 q264 ⟨by decide, by decide, rfl⟩ ⟨Nat.le_of_ble_eq_true rfl, Nat.le_of_ble_eq_true rfl, Nat.le_of_ble_eq_true rfl⟩ rfl hl.1 (st0 := [.int (-7), .int t0]) rfl (Nat.le_of_ble_eq_true rfl) dX5_place_93 hf) (fun E9 ce9 q3 h4 H locs hx9 hH hB hce hcv hcl => ?_) (fun v9 h9 H locs hv9 hH hB => ?_)
  · exact zc_out X hH hB (by rw [hT]; intro x hx9; cases hx9) hce hcv hcl hx9
  obtain ⟨rfl, hF, rfl⟩ := hv9
  refine lv_aload_n hx hb dX5_place_96 rfl (lv_at hl 0 rfl) ?_
  refine zq_aload hx hb dX5_place_97 (lv_at hl 3 rfl) ?_
  refine lv_iload_n hx hb dX5_place_99 rfl (lv_at hl 1 rfl) ?_
  refine lv_iconst (v := 1) hx hb dX5_place_100 (by decide) ?_
  refine lv_iload hx hb dX5_place_101 (lv_at hl 2 rfl) ?_
  refine lv_if_ne (tgt := 110) hx hb dX5_place_103 (by decide) (fun cd => ?_) (fun cd => ?_)
  · have hF := hF.1 cd
    refine lv_iload hx hb dX5_place_110 (lv_at hl 2 rfl) ?_
    refine lv_iconst (v := 1) hx hb dX5_place_112 (by decide) ?_
    refine lv_icmp_ne (tgt := 126) hx hb dX5_place_113 (by decide) (fun cd => ?_) (fun cd => ?_)
    · have hF := hF.1 cd
      refine lv_aload_n hx hb dX5_place_126 rfl (lv_at hl 0 rfl) ?_
      obtain ⟨hc, hF⟩ := hF
      refine zc_getf X hH hc 5 205 ("ChurchyardBook$Book", "this$0", "LChurchyardBook;", true) (by decide +kernel) (v := va_rf (zr h 205 o)) rfl q198 (Or.inl rfl) dX5_place_127 ?_
      obtain ⟨b5, eb5, hF⟩ := hF
      refine zq_st (st2 := [.ref b5, .int 1, .int v3, va_rf q5, .ref o]) (by rw [eb5]; first | done | rfl) ?_
      obtain ⟨hc, hF⟩ := hF
      refine zc_getN X hH hc 1 101 ("ChurchyardBook", "way", "LChurchyardBook$Way;", true) (by decide +kernel) (v := va_rf (zr h 101 b5)) rfl (idx := 106) (ref := "ChurchyardBook") (host := "ChurchyardBook") (by decide +kernel) rfl dX5_place_130 ?_
      exact wc_X5_place_133 X hN hT h (bc - c1) (bs - s2) q5 v3 1 (zr h 101 b5) hF _ _ _ _ _ hB (lv_sub hl [0] rfl) hH
    · have hF := hF.2 cd
      refine lv_aload_n hx hb dX5_place_116 rfl (lv_at hl 0 rfl) ?_
      obtain ⟨hc, hF⟩ := hF
      refine zc_getf X hH hc 5 205 ("ChurchyardBook$Book", "this$0", "LChurchyardBook;", true) (by decide +kernel) (v := va_rf (zr h 205 o)) rfl q198 (Or.inl rfl) dX5_place_117 ?_
      obtain ⟨b6, eb6, hF⟩ := hF
      refine zq_st (st2 := [.ref b6, .int 1, .int v3, va_rf q5, .ref o]) (by rw [eb6]; first | done | rfl) ?_
      obtain ⟨hc, hF⟩ := hF
      refine zc_getN X hH hc 0 100 ("ChurchyardBook", "tree", "LChurchyardBook$Tree;", true) (by decide +kernel) (v := va_rf (zr h 100 b6)) rfl (idx := 102) (ref := "ChurchyardBook") (host := "ChurchyardBook") (by decide +kernel) rfl dX5_place_120 ?_
      refine lv_goto (tgt := 133) hx hb dX5_place_123 (by decide) ?_
      exact wc_X5_place_133 X hN hT h (bc - c1) (bs - s2) q5 v3 1 (zr h 100 b6) hF _ _ _ _ _ hB (lv_sub hl [0] rfl) hH
  · have hF := hF.2 cd
    refine lv_null hx hb dX5_place_106 ?_
    refine lv_goto (tgt := 133) hx hb dX5_place_107 (by decide) ?_
    exact wc_X5_place_133 X hN hT h (bc - c1) (bs - s2) q5 v3 1 none hF _ _ _ _ _ hB (lv_sub hl [0] rfl) hH
set_option maxHeartbeats 4000000 in
set_option maxRecDepth 100000 in
theorem wc_X5_place_90 {p : Program} {l : Launch} {e : Env} {s : State} {m : MethodId} {args : Array Value} {below : List Frame} {meth : Method} {c : Code} {D : va_G} {cA : Nat → ClassId} {P : Nat → Prop} {G : Nat × Nat × Nat} {C S : Nat} {o : Nat} {Q : Int32 → ZH → Prop} {XE : String → Nat → ZH → Prop} (X : zc_Cx p l s m args meth c cX5_place 7 (some .int) "ChurchyardBook$Book" D cA P G) (hN : meth.name = "place") (hT : c.exceptionTable.toList = tableOf []) :
    ∀ (h : ZH) (bc bs : Nat) (v3 : Int32) (v4 : Int32) (q5 : Option Nat), fc_X5_place_90 G o Q XE h bc bs v3 v4 q5 → ∀ (H : Heap) (locs : List Loc) (ls : Array Slot) (cells slots : Nat), cells + bc ≤ C ∧ slots + bs ≤ S → lv_has ls 7 [(0, .ref o), (3, .int v3), (4, .int v4), (5, va_rf q5)] → zc_H D cA P h s H locs → W p l e (zc_Ro 5 C S) s m args below meth c H locs cells slots (vx_MQ below (zc_Q D cA P (fun v h' => ∃ z : Int32, v = some (.int z) ∧ Q z h')) (zc_X D cA P XE) args s C S P) (F0 m 90 ls []) := by
  have hx := X.1
  have hb := X.2.1
  have hown := X.2.2.2.1
  have hts := X.2.2.2.2.1
  intro h bc bs v3 v4 q5 hF
  intro H locs ls cells slots hB hl hH
  unfold fc_X5_place_90 at hF
  refine lv_iconst (v := 0) hx hb dX5_place_90 (by decide) ?_
  exact wc_X5_place_91 X hN hT h bc bs v3 v4 q5 0 hF _ _ _ _ _ hB (lv_sub hl [0, 1, 2, 3] rfl) hH
set_option maxHeartbeats 4000000 in
set_option maxRecDepth 100000 in
theorem wc_X5_place_86 {p : Program} {l : Launch} {e : Env} {s : State} {m : MethodId} {args : Array Value} {below : List Frame} {meth : Method} {c : Code} {D : va_G} {cA : Nat → ClassId} {P : Nat → Prop} {G : Nat × Nat × Nat} {C S : Nat} {o : Nat} {Q : Int32 → ZH → Prop} {XE : String → Nat → ZH → Prop} (X : zc_Cx p l s m args meth c cX5_place 7 (some .int) "ChurchyardBook$Book" D cA P G) (hN : meth.name = "place") (hT : c.exceptionTable.toList = tableOf []) :
    ∀ (h : ZH) (bc bs : Nat) (v3 : Int32) (v4 : Int32) (q5 : Option Nat), fc_X5_place_86 G o Q XE h bc bs v3 v4 q5 → ∀ (H : Heap) (locs : List Loc) (ls : Array Slot) (cells slots : Nat), cells + bc ≤ C ∧ slots + bs ≤ S → lv_has ls 7 [(0, .ref o), (3, .int v3), (4, .int v4), (5, va_rf q5)] → zc_H D cA P h s H locs → W p l e (zc_Ro 5 C S) s m args below meth c H locs cells slots (vx_MQ below (zc_Q D cA P (fun v h' => ∃ z : Int32, v = some (.int z) ∧ Q z h')) (zc_X D cA P XE) args s C S P) (F0 m 86 ls []) := by
  have hx := X.1
  have hb := X.2.1
  have hown := X.2.2.2.1
  have hts := X.2.2.2.2.1
  intro h bc bs v3 v4 q5 hF
  intro H locs ls cells slots hB hl hH
  unfold fc_X5_place_86 at hF
  refine lv_iconst (v := 1) hx hb dX5_place_86 (by decide) ?_
  refine lv_goto (tgt := 91) hx hb dX5_place_87 (by decide) ?_
  exact wc_X5_place_91 X hN hT h bc bs v3 v4 q5 1 hF _ _ _ _ _ hB (lv_sub hl [0, 1, 2, 3] rfl) hH
set_option maxHeartbeats 4000000 in
set_option maxRecDepth 100000 in
theorem wc_X5_place_51 {p : Program} {l : Launch} {e : Env} {s : State} {m : MethodId} {args : Array Value} {below : List Frame} {meth : Method} {c : Code} {D : va_G} {cA : Nat → ClassId} {P : Nat → Prop} {G : Nat × Nat × Nat} {C S : Nat} {o : Nat} {Q : Int32 → ZH → Prop} {XE : String → Nat → ZH → Prop} (X : zc_Cx p l s m args meth c cX5_place 7 (some .int) "ChurchyardBook$Book" D cA P G) (hN : meth.name = "place") (hT : c.exceptionTable.toList = tableOf []) :
    ∀ (h : ZH) (bc bs : Nat) (v3 : Int32) (v4 : Int32) (q5 : Option Nat) (t0 : Int32), fc_X5_place_51 G o Q XE h bc bs v3 v4 q5 t0 → ∀ (H : Heap) (locs : List Loc) (ls : Array Slot) (cells slots : Nat), cells + bc ≤ C ∧ slots + bs ≤ S → lv_has ls 7 [(0, .ref o), (3, .int v3), (4, .int v4), (5, va_rf q5)] → zc_H D cA P h s H locs → W p l e (zc_Ro 5 C S) s m args below meth c H locs cells slots (vx_MQ below (zc_Q D cA P (fun v h' => ∃ z : Int32, v = some (.int z) ∧ Q z h')) (zc_X D cA P XE) args s C S P) (F0 m 51 ls [.int t0]) := by
  have hx := X.1
  have hb := X.2.1
  have hown := X.2.2.2.1
  have hts := X.2.2.2.2.1
  intro h bc bs v3 v4 q5 t0 hF
  intro H locs ls cells slots hB hl hH
  unfold fc_X5_place_51 at hF
  refine lv_bipush (v := (-6)) hx hb dX5_place_51 (by decide) ?_
  obtain ⟨c1, s2, hc1, hs1, hF⟩ := hF
  refine zc_call (c1 := c1) (s1 := s2) (rest := []) hH hB hc1 hs1 (fun hf => zc_rSN X hH (As := [.int t0, .int (-6)]) (host := "ChurchyardBook") (wc_X1_need X.2.2.2.2.2.2.2.1 hF) (lw_meth q265) (by decide +kernel) q87 q264 ⟨by decide, by decide, rfl⟩ ⟨Nat.le_of_ble_eq_true rfl, Nat.le_of_ble_eq_true rfl, Nat.le_of_ble_eq_true rfl⟩ rfl hl.1 (st0 := [.int (-6), .int t0]) rfl (Nat.le_of_ble_eq_true rfl) dX5_place_53 hf) (fun E9 ce9 q3 h4 H locs hx9 hH hB hce hcv hcl => ?_) (fun v9 h9 H locs hv9 hH hB => ?_)
  · exact zc_out X hH hB (by rw [hT]; intro x hx9; cases hx9) hce hcv hcl hx9
  obtain ⟨rfl, hF, rfl⟩ := hv9
  refine lv_iload hx hb dX5_place_56 (lv_at hl 2 rfl) ?_
  refine lv_iconst (v := 1) hx hb dX5_place_58 (by decide) ?_
  refine lv_icmp_ne (tgt := 86) hx hb dX5_place_59 (by decide) (fun cd => ?_) (fun cd => ?_)
  · have hF := hF.1 cd
    exact wc_X5_place_86 X hN hT h (bc - c1) (bs - s2) v3 v4 q5 hF _ _ _ _ _ hB (lv_sub hl [0, 1, 2, 3] rfl) hH
  · have hF := hF.2 cd
    refine lv_aload_n hx hb dX5_place_62 rfl (lv_at hl 0 rfl) ?_
    refine zq_aload hx hb dX5_place_63 (lv_at hl 3 rfl) ?_
    refine lv_iload_n hx hb dX5_place_65 rfl (lv_at hl 1 rfl) ?_
    refine lv_iconst (v := 1) hx hb dX5_place_66 (by decide) ?_
    refine lv_isub hx hb dX5_place_67 ?_
    obtain ⟨hc, hF⟩ := hF
    refine zc_call (c1 := 0) (s1 := 0) (rest := []) hH hB (Nat.zero_le _) (Nat.zero_le _) (fun hf => zc_rV X hH hc (by decide) rfl (As := [va_rf q5, .int (v3 - 1)]) (wc_X5_shuns X.2.2.2.2.2.2.2.1 hF) (lw_V q577 q579 qs6 q91 q580) ⟨rfl, by decide, by decide, rfl⟩ ⟨Nat.le_of_ble_eq_true rfl, Nat.le_of_ble_eq_true rfl, Nat.le_of_ble_eq_true rfl⟩ rfl hl.1 (st0 := [.int (v3 - 1), va_rf q5, .ref o]) rfl (Nat.le_of_ble_eq_true rfl) dX5_place_68 hf) (fun E9 ce9 q9 h9 H locs hx9 => False.elim hx9) (fun v9 h9 H locs hv9 hH hB => ?_)
    obtain ⟨z5, rfl, hF, rfl⟩ := hv9
    refine lv_if_ne (tgt := 90) hx hb dX5_place_71 (by decide) (fun cd => ?_) (fun cd => ?_)
    · have hF := hF.1 cd
      exact wc_X5_place_90 X hN hT h (bc - c1) (bs - s2) v3 v4 q5 hF _ _ _ _ _ hB (lv_sub hl [0, 1, 2, 3] rfl) hH
    · have hF := hF.2 cd
      refine lv_aload_n hx hb dX5_place_74 rfl (lv_at hl 0 rfl) ?_
      refine zq_aload hx hb dX5_place_75 (lv_at hl 3 rfl) ?_
      refine lv_iload_n hx hb dX5_place_77 rfl (lv_at hl 1 rfl) ?_
      refine lv_iconst (v := 1) hx hb dX5_place_78 (by decide) ?_
      refine lv_iadd hx hb dX5_place_79 ?_
      obtain ⟨hc, hF⟩ := hF
      refine zc_call (c1 := 0) (s1 := 0) (rest := []) hH hB (Nat.zero_le _) (Nat.zero_le _) (fun hf => zc_rV X hH hc (by decide) rfl (As := [va_rf q5, .int (v3 + 1)]) (wc_X5_shuns X.2.2.2.2.2.2.2.1 hF) (lw_V q577 q579 qs6 q91 q580) ⟨rfl, by decide, by decide, rfl⟩ ⟨Nat.le_of_ble_eq_true rfl, Nat.le_of_ble_eq_true rfl, Nat.le_of_ble_eq_true rfl⟩ rfl hl.1 (st0 := [.int (v3 + 1), va_rf q5, .ref o]) rfl (Nat.le_of_ble_eq_true rfl) dX5_place_80 hf) (fun E9 ce9 q9 h9 H locs hx9 => False.elim hx9) (fun v9 h9 H locs hv9 hH hB => ?_)
      obtain ⟨z6, rfl, hF, rfl⟩ := hv9
      refine lv_if_ne (tgt := 90) hx hb dX5_place_83 (by decide) (fun cd => ?_) (fun cd => ?_)
      · have hF := hF.1 cd
        exact wc_X5_place_90 X hN hT h (bc - c1) (bs - s2) v3 v4 q5 hF _ _ _ _ _ hB (lv_sub hl [0, 1, 2, 3] rfl) hH
      · have hF := hF.2 cd
        exact wc_X5_place_86 X hN hT h (bc - c1) (bs - s2) v3 v4 q5 hF _ _ _ _ _ hB (lv_sub hl [0, 1, 2, 3] rfl) hH
set_option maxHeartbeats 4000000 in
set_option maxRecDepth 100000 in
theorem wc_X5_place_33 {p : Program} {l : Launch} {e : Env} {s : State} {m : MethodId} {args : Array Value} {below : List Frame} {meth : Method} {c : Code} {D : va_G} {cA : Nat → ClassId} {P : Nat → Prop} {G : Nat × Nat × Nat} {C S : Nat} {o : Nat} {Q : Int32 → ZH → Prop} {XE : String → Nat → ZH → Prop} (X : zc_Cx p l s m args meth c cX5_place 7 (some .int) "ChurchyardBook$Book" D cA P G) (hN : meth.name = "place") (hT : c.exceptionTable.toList = tableOf []) :
    ∀ (h : ZH) (bc bs : Nat) (v3 : Int32) (v4 : Int32) (q5 : Option Nat) (q6 : Option Nat) (t0 : Int32), fc_X5_place_33 G o Q XE h bc bs v3 v4 q5 q6 t0 → ∀ (H : Heap) (locs : List Loc) (ls : Array Slot) (cells slots : Nat), cells + bc ≤ C ∧ slots + bs ≤ S → lv_has ls 7 [(0, .ref o), (3, .int v3), (4, .int v4), (5, va_rf q5), (6, va_rf q6)] → zc_H D cA P h s H locs → W p l e (zc_Ro 5 C S) s m args below meth c H locs cells slots (vx_MQ below (zc_Q D cA P (fun v h' => ∃ z : Int32, v = some (.int z) ∧ Q z h')) (zc_X D cA P XE) args s C S P) (F0 m 33 ls [.int t0]) := by
  have hx := X.1
  have hb := X.2.1
  have hown := X.2.2.2.1
  have hts := X.2.2.2.2.1
  intro h bc bs v3 v4 q5 q6 t0 hF
  intro H locs ls cells slots hB hl hH
  unfold fc_X5_place_33 at hF
  refine lv_iconst (v := (-1)) hx hb dX5_place_33 (by decide) ?_
  obtain ⟨c1, s2, hc1, hs1, hF⟩ := hF
  refine zc_call (c1 := c1) (s1 := s2) (rest := []) hH hB hc1 hs1 (fun hf => zc_rSN X hH (As := [.int t0, .int (-1)]) (host := "ChurchyardBook") (wc_X1_need X.2.2.2.2.2.2.2.1 hF) (lw_meth q265) (by decide +kernel) q87 q264 ⟨by decide, by decide, rfl⟩ ⟨Nat.le_of_ble_eq_true rfl, Nat.le_of_ble_eq_true rfl, Nat.le_of_ble_eq_true rfl⟩ rfl hl.1 (st0 := [.int (-1), .int t0]) rfl (Nat.le_of_ble_eq_true rfl) dX5_place_34 hf) (fun E9 ce9 q3 h4 H locs hx9 hH hB hce hcv hcl => ?_) (fun v9 h9 H locs hv9 hH hB => ?_)
  · exact zc_out X hH hB (by rw [hT]; intro x hx9; cases hx9) hce hcv hcl hx9
  obtain ⟨rfl, hF, rfl⟩ := hv9
  refine lv_aload_n hx hb dX5_place_37 rfl (lv_at hl 0 rfl) ?_
  refine zq_aload hx hb dX5_place_38 (lv_at hl 4 rfl) ?_
  obtain ⟨hc, hF⟩ := hF
  obtain ⟨c5, s6, hc1, hs1, hF⟩ := hF
  refine zc_call (c1 := c5) (s1 := s6) (rest := []) hH hB hc1 hs1 (fun hf => zc_rVW X hH hc (by decide) rfl (As := [va_rf q6]) (wc_X5_isGrave X.2.2.2.2.2.2.2.1 hF) (lw_VW q559 q560 q561 q91 q562) ⟨rfl, by decide, by decide, rfl⟩ ⟨Nat.le_of_ble_eq_true rfl, Nat.le_of_ble_eq_true rfl, Nat.le_of_ble_eq_true rfl⟩ rfl hl.1 (st0 := [va_rf q6, .ref o]) rfl (Nat.le_of_ble_eq_true rfl) dX5_place_40 hf) (fun E9 ce9 q9 h9 H locs hx9 => False.elim hx9) (fun v9 h9 H locs hv9 hH hB => ?_)
  obtain ⟨z7, rfl, hF, rfl⟩ := hv9
  refine lv_if_ne (tgt := 50) hx hb dX5_place_43 (by decide) (fun cd => ?_) (fun cd => ?_)
  · have hF := hF.1 cd
    refine lv_iconst (v := 0) hx hb dX5_place_50 (by decide) ?_
    exact wc_X5_place_51 X hN hT h ((bc - c1) - c5) ((bs - s2) - s6) v3 v4 q5 0 hF _ _ _ _ _ hB (lv_sub hl [0, 1, 2, 3] rfl) hH
  · have hF := hF.2 cd
    refine lv_iconst (v := 1) hx hb dX5_place_46 (by decide) ?_
    refine lv_goto (tgt := 51) hx hb dX5_place_47 (by decide) ?_
    exact wc_X5_place_51 X hN hT h ((bc - c1) - c5) ((bs - s2) - s6) v3 v4 q5 1 hF _ _ _ _ _ hB (lv_sub hl [0, 1, 2, 3] rfl) hH
set_option maxHeartbeats 4000000 in
set_option maxRecDepth 100000 in
theorem wc_X5_place_32 {p : Program} {l : Launch} {e : Env} {s : State} {m : MethodId} {args : Array Value} {below : List Frame} {meth : Method} {c : Code} {D : va_G} {cA : Nat → ClassId} {P : Nat → Prop} {G : Nat × Nat × Nat} {C S : Nat} {o : Nat} {Q : Int32 → ZH → Prop} {XE : String → Nat → ZH → Prop} (X : zc_Cx p l s m args meth c cX5_place 7 (some .int) "ChurchyardBook$Book" D cA P G) (hN : meth.name = "place") (hT : c.exceptionTable.toList = tableOf []) :
    ∀ (h : ZH) (bc bs : Nat) (v3 : Int32) (v4 : Int32) (q5 : Option Nat) (q6 : Option Nat), fc_X5_place_32 G o Q XE h bc bs v3 v4 q5 q6 → ∀ (H : Heap) (locs : List Loc) (ls : Array Slot) (cells slots : Nat), cells + bc ≤ C ∧ slots + bs ≤ S → lv_has ls 7 [(0, .ref o), (3, .int v3), (4, .int v4), (5, va_rf q5), (6, va_rf q6)] → zc_H D cA P h s H locs → W p l e (zc_Ro 5 C S) s m args below meth c H locs cells slots (vx_MQ below (zc_Q D cA P (fun v h' => ∃ z : Int32, v = some (.int z) ∧ Q z h')) (zc_X D cA P XE) args s C S P) (F0 m 32 ls []) := by
  have hx := X.1
  have hb := X.2.1
  have hown := X.2.2.2.1
  have hts := X.2.2.2.2.1
  intro h bc bs v3 v4 q5 q6 hF
  intro H locs ls cells slots hB hl hH
  unfold fc_X5_place_32 at hF
  refine lv_iconst (v := 0) hx hb dX5_place_32 (by decide) ?_
  exact wc_X5_place_33 X hN hT h bc bs v3 v4 q5 q6 0 hF _ _ _ _ _ hB (lv_sub hl [0, 1, 2, 3, 4] rfl) hH
set_option maxHeartbeats 4000000 in
set_option maxRecDepth 100000 in
theorem wc_X5_place {l : Launch} {D : va_G} {cA : Nat → ClassId} {P : Nat → Prop} {G : Nat × Nat × Nat} {o : Nat} {Q : Int32 → ZH → Prop} {XE : String → Nat → ZH → Prop} {h : ZH} {C S : Nat} {v1 : Int32} {v2 : Int32} {v3 : Int32} {v4 : Int32} (hl9 : l.stackTraces = false) (hF : fc_X5_place G o Q XE h C S v1 v2 v3 v4) :
    zc_M l yX5_place (ws_ yX5_place cX5_place 7 (some .int)) 5 D cA P G [.ref o, .int v1, .int v2, .int v3, .int v4] h C S (fun v h' => ∃ z : Int32, v = some (.int z) ∧ Q z h') XE := by
  refine zc_ofF hl9 rfl (by decide +kernel) (Nat.le_of_ble_eq_true rfl) ?_
  intro p e s m args below meth c H locs ls X hN hT hH hl
  have hx := X.1
  have hb := X.2.1
  have hown := X.2.2.2.1
  have hts := X.2.2.2.2.1
  have hl : lv_has ls 7 [(0, .ref o), (1, .int v1), (2, .int v2), (3, .int v3), (4, .int v4)] := hl
  have hB : 0 + C ≤ C ∧ 0 + S ≤ S := ⟨by omega, by omega⟩
  unfold fc_X5_place at hF
  refine lv_aload_n hx hb dX5_place_0 rfl (lv_at hl 0 rfl) ?_
  refine lv_iload_n hx hb dX5_place_1 rfl (lv_at hl 1 rfl) ?_
  refine lv_iload_n hx hb dX5_place_2 rfl (lv_at hl 2 rfl) ?_
  obtain ⟨hc, hF⟩ := hF
  obtain ⟨c1, s2, hc1, hs1, hF⟩ := hF
  refine zc_call (c1 := c1) (s1 := s2) (rest := []) hH hB hc1 hs1 (fun hf => zc_rVW X hH hc (by decide) rfl (As := [.int v1, .int v2]) (wc_X5_row X.2.2.2.2.2.2.2.1 hF) (lw_VW q505 q506 q507 q91 q508) ⟨rfl, by decide, by decide, rfl⟩ ⟨Nat.le_of_ble_eq_true rfl, Nat.le_of_ble_eq_true rfl, Nat.le_of_ble_eq_true rfl⟩ rfl hl.1 (st0 := [.int v2, .int v1, .ref o]) rfl (Nat.le_of_ble_eq_true rfl) dX5_place_3 hf) (fun E9 ce9 q4 h5 H locs hx9 hH hB hce hcv hcl => ?_) (fun v9 h9 H locs hv9 hH hB => ?_)
  · exact zc_out X hH hB (by rw [hT]; intro x hx9; cases hx9) hce hcv hcl hx9
  obtain ⟨r3, rfl, hF, rfl⟩ := hv9
  refine zq_astore (r := r3) (lv' := [(5, va_rf r3), (0, .ref o), (1, .int v1), (2, .int v2), (3, .int v3), (4, .int v4)]) hx hb rfl dX5_place_6 hl (by decide) rfl (fun ls hl => ?_)
  refine lv_aload_n hx hb dX5_place_8 rfl (lv_at hl 1 rfl) ?_
  refine zq_aload hx hb dX5_place_9 (lv_at hl 0 rfl) ?_
  refine lv_iload_n hx hb dX5_place_11 rfl (lv_at hl 4 rfl) ?_
  obtain ⟨hc, hF⟩ := hF
  obtain ⟨c6, s7, hc1, hs1, hF⟩ := hF
  refine zc_call (c1 := c6) (s1 := s7) (rest := []) hH hB hc1 hs1 (fun hf => zc_rVW X hH hc (by decide) rfl (As := [va_rf r3, .int v3]) (wc_X5_at X.2.2.2.2.2.2.2.1 hF) (lw_VW q536 q537 q538 q91 q539) ⟨rfl, by decide, by decide, rfl⟩ ⟨Nat.le_of_ble_eq_true rfl, Nat.le_of_ble_eq_true rfl, Nat.le_of_ble_eq_true rfl⟩ rfl hl.1 (st0 := [.int v3, va_rf r3, .ref o]) rfl (Nat.le_of_ble_eq_true rfl) dX5_place_12 hf) (fun E9 ce9 q9 h10 H locs hx9 hH hB hce hcv hcl => ?_) (fun v9 h9 H locs hv9 hH hB => ?_)
  · exact zc_out X hH hB (by rw [hT]; intro x hx9; cases hx9) hce hcv hcl hx9
  obtain ⟨r8, rfl, hF, rfl⟩ := hv9
  refine zq_astore (r := r8) (lv' := [(6, va_rf r8), (5, va_rf r3), (0, .ref o), (1, .int v1), (2, .int v2), (3, .int v3), (4, .int v4)]) hx hb rfl dX5_place_15 hl (by decide) (by cases r3 <;> rfl) (fun ls hl => ?_)
  refine lv_iload hx hb dX5_place_17 (lv_at hl 6 rfl) ?_
  refine lv_if_lt (tgt := 32) hx hb dX5_place_19 (by decide) (fun cd => ?_) (fun cd => ?_)
  · have hF := hF.1 cd
    exact wc_X5_place_32 X hN hT h ((C - c1) - c6) ((S - s2) - s7) v3 v4 r3 r8 hF _ _ _ _ _ hB (lv_sub hl [2, 5, 6, 1, 0] rfl) hH
  · have hF := hF.2 cd
    refine lv_iload hx hb dX5_place_22 (lv_at hl 6 rfl) ?_
    refine lv_iconst (v := 2) hx hb dX5_place_24 (by decide) ?_
    refine lv_icmp_gt (tgt := 32) hx hb dX5_place_25 (by decide) (fun cd => ?_) (fun cd => ?_)
    · have hF := hF.1 cd
      exact wc_X5_place_32 X hN hT h ((C - c1) - c6) ((S - s2) - s7) v3 v4 r3 r8 hF _ _ _ _ _ hB (lv_sub hl [2, 5, 6, 1, 0] rfl) hH
    · have hF := hF.2 cd
      refine lv_iconst (v := 1) hx hb dX5_place_28 (by decide) ?_
      refine lv_goto (tgt := 33) hx hb dX5_place_29 (by decide) ?_
      exact wc_X5_place_33 X hN hT h ((C - c1) - c6) ((S - s2) - s7) v3 v4 r3 r8 1 hF _ _ _ _ _ hB (lv_sub hl [2, 5, 6, 1, 0] rfl) hH
set_option maxHeartbeats 4000000 in
set_option maxRecDepth 100000 in
theorem wc_X5_isTree {l : Launch} {D : va_G} {cA : Nat → ClassId} {P : Nat → Prop} {G : Nat × Nat × Nat} {o : Nat} {Q : Int32 → Prop} {h : ZH} {C S : Nat} {q1 : Option Nat} {v2 : Int32} (hl9 : l.stackTraces = false) (hF : fc_X5_isTree G o Q h q1 v2) :
    zc_M l yX5_isTree (ws_ yX5_isTree cX5_isTree 3 (some .boolean)) 1 D cA P G [.ref o, va_rf q1, .int v2] h C S (fun v h' => ∃ z : Int32, v = some (.int z) ∧ Q z ∧ h = h') zc_no := by
  refine zc_ofF hl9 rfl (by decide +kernel) (zc_slle (by simp [zc_k1, zc_kI, zc_kR]) (Nat.le_of_ble_eq_true rfl)) ?_
  intro p e s m args below meth c H locs ls X hN hT hH hl
  have hx := X.1
  have hb := X.2.1
  have hown := X.2.2.2.1
  have hts := X.2.2.2.2.1
  have hl : lv_has ls 3 [(0, .ref o), (1, va_rf q1), (2, .int v2)] := by
    have h9 := hl
    rw [zc_ags _ (by simp [zc_k1, zc_kI, zc_kR]) 0] at h9
    exact h9
  have hB : 0 + 0 ≤ C ∧ 0 + 0 ≤ S := ⟨by omega, by omega⟩
  have eh : h = h := rfl
  unfold fc_X5_isTree at hF
  refine lv_iload_n hx hb dX5_isTree_0 rfl (lv_at hl 2 rfl) ?_
  refine lv_if_lt (tgt := 23) hx hb dX5_isTree_1 (by decide) (fun cd => ?_) (fun cd => ?_)
  · have hF := hF.1 cd
    refine lv_iconst (v := 0) hx hb dX5_isTree_23 (by decide) ?_
    exact zc_iret X hH hB rfl rfl ⟨_, rfl, hF, eh⟩ dX5_isTree_24
  · have hF := hF.2 cd
    refine lv_iload_n hx hb dX5_isTree_4 rfl (lv_at hl 2 rfl) ?_
    refine zq_aload_n hx hb dX5_isTree_5 rfl (lv_at hl 1 rfl) ?_
    obtain ⟨b1, eb1, hF⟩ := hF
    refine zq_st (st2 := [.ref b1, .int v2]) (by rw [eb1]; first | done | rfl) ?_
    obtain ⟨hc, hF⟩ := hF
    refine zc_alen X hH hc dX5_isTree_6 ?_
    refine lv_icmp_ge (tgt := 23) hx hb dX5_isTree_7 (by decide) (fun cd => ?_) (fun cd => ?_)
    · have hF := hF.1 cd
      refine lv_iconst (v := 0) hx hb dX5_isTree_23 (by decide) ?_
      exact zc_iret X hH hB rfl rfl ⟨_, rfl, hF, eh⟩ dX5_isTree_24
    · have hF := hF.2 cd
      refine zq_aload_n hx hb dX5_isTree_10 rfl (lv_at hl 1 rfl) ?_
      refine lv_iload_n hx hb dX5_isTree_11 rfl (lv_at hl 2 rfl) ?_
      refine zq_st (st2 := [.int v2, .ref b1]) (by rw [eb1]; first | done | rfl) ?_
      obtain ⟨hc, hF⟩ := hF
      obtain ⟨hI, hF⟩ := hF
      refine zc_aald X hH [23, 24, 25, 26] 3 hc (by decide) hI dX5_isTree_12 ?_
      obtain ⟨hA, hF⟩ := hF
      refine zc_inst X hH (r := (zs h 3 b1 v2.toNatClampNeg)) [2] [3, 8, 9, 10, 11, 12, 13] "ChurchyardBook$Tree" hA (by decide) (by decide +kernel) (by decide +kernel) (by decide) q639 dX5_isTree_13 ?_
      refine lv_if_eq (tgt := 23) hx hb dX5_isTree_16 (by decide) (fun cd => ?_) (fun cd => ?_)
      · have hF := hF.1 cd
        refine lv_iconst (v := 0) hx hb dX5_isTree_23 (by decide) ?_
        exact zc_iret X hH hB rfl rfl ⟨_, rfl, hF, eh⟩ dX5_isTree_24
      · have hF := hF.2 cd
        refine lv_iconst (v := 1) hx hb dX5_isTree_19 (by decide) ?_
        refine lv_goto (tgt := 24) hx hb dX5_isTree_20 (by decide) ?_
        exact zc_iret X hH hB rfl rfl ⟨_, rfl, hF, eh⟩ dX5_isTree_24
set_option maxHeartbeats 4000000 in
set_option maxRecDepth 100000 in
theorem wc_X5_asks_76 {p : Program} {l : Launch} {e : Env} {s : State} {m : MethodId} {args : Array Value} {below : List Frame} {meth : Method} {c : Code} {D : va_G} {cA : Nat → ClassId} {P : Nat → Prop} {G : Nat × Nat × Nat} {C S : Nat} {o : Nat} {Q : Prop} {XE : String → Nat → ZH → Prop} {h0 : ZH} (X : zc_Cx p l s m args meth c cX5_asks 6 none "ChurchyardBook$Book" D cA P G) (hN : meth.name = "asks") (hT : c.exceptionTable.toList = tableOf []) :
    ∀ (h : ZH) (bc bs : Nat) (t0 : Int32), fc_X5_asks_76 G o Q XE h bc bs t0 → ∀ (H : Heap) (locs : List Loc) (ls : Array Slot) (cells slots : Nat), cells + bc ≤ C ∧ slots + bs ≤ S → h0 = h → lv_has ls 6 [(0, .ref o)] → zc_H D cA P h s H locs → W p l e (zc_Ro 4 C S) s m args below meth c H locs cells slots (vx_MQ below (zc_Q D cA P (fun v h' => v = none ∧ Q ∧ h0 = h')) (zc_X D cA P XE) args s C S P) (F0 m 76 ls [.int t0]) := by
  have hx := X.1
  have hb := X.2.1
  have hown := X.2.2.2.1
  have hts := X.2.2.2.2.1
  intro h bc bs t0 hF
  intro H locs ls cells slots hB eh hl hH
  unfold fc_X5_asks_76 at hF
  refine lv_bipush (v := (-7)) hx hb dX5_asks_76 (by decide) ?_
  obtain ⟨c1, s2, hc1, hs1, hF⟩ := hF
  refine zc_call (c1 := c1) (s1 := s2) (rest := []) hH hB hc1 hs1 (fun hf => zc_rSN X hH (As := [.int t0, .int (-7)]) (host := "ChurchyardBook") (wc_X1_need X.2.2.2.2.2.2.2.1 hF) (lw_meth q265) (by decide +kernel) q87 q264 ⟨by decide, by decide, rfl⟩ ⟨Nat.le_of_ble_eq_true rfl, Nat.le_of_ble_eq_true rfl, Nat.le_of_ble_eq_true rfl⟩ rfl hl.1 (st0 := [.int (-7), .int t0]) rfl (Nat.le_of_ble_eq_true rfl) dX5_asks_78 hf) (fun E9 ce9 q3 h4 H locs hx9 hH hB hce hcv hcl => ?_) (fun v9 h9 H locs hv9 hH hB => ?_)
  · exact zc_out X hH hB (by rw [hT]; intro x hx9; cases hx9) hce hcv hcl hx9
  obtain ⟨rfl, hF, rfl⟩ := hv9
  exact zc_vret X hH hB rfl ⟨rfl, hF, eh⟩ dX5_asks_81
