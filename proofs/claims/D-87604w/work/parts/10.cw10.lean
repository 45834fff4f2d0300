/-! THE COMPONENT SIDE: the walks, printed by gen_comp.py -/
set_option maxRecDepth 100000
set_option maxHeartbeats 4000000 in
set_option maxRecDepth 100000 in
theorem wc_X1_states {l : Launch} {D : va_G} {cA : Nat → ClassId} {P : Nat → Prop} {G : Nat × Nat × Nat} {o : Nat} {Q : Int32 → Prop} {h : ZH} {C S : Nat} {v1 : Int32} (hl9 : l.stackTraces = false) (hF : fc_X1_states G o Q h v1) :
    zc_M l yX1_states (ws_ yX1_states cX1_states 4 (some .int)) 4 D cA P G [.ref o, .int v1] h C S (fun v h' => ∃ z : Int32, v = some (.int z) ∧ Q z ∧ h = h') zc_no := by
  refine zc_ofF hl9 rfl (by decide +kernel) (Nat.le_of_ble_eq_true rfl) ?_
  intro p e s m args below meth c H locs ls X hN hT hH hl
  have hx := X.1
  have hb := X.2.1
  have hown := X.2.2.2.1
  have hts := X.2.2.2.2.1
  have hl : lv_has ls 4 [(0, .ref o), (1, .int v1)] := hl
  have hB : 0 + 0 ≤ C ∧ 0 + 0 ≤ S := ⟨by omega, by omega⟩
  have eh : h = h := rfl
  unfold fc_X1_states at hF
  refine lv_iconst (v := 0) hx hb dX1_states_0 (by decide) ?_
  refine lv_istore_n (lv' := [(2, .int 0), (0, .ref o), (1, .int v1)]) hx hb dX1_states_1 rfl hl (by decide) rfl (fun ls hl => ?_)
  refine lv_iconst (v := 0) hx hb dX1_states_2 (by decide) ?_
  refine lv_istore_n (lv' := [(3, .int 0), (2, .int 0), (0, .ref o), (1, .int v1)]) hx hb dX1_states_3 rfl hl (by decide) rfl (fun ls hl => ?_)
  obtain ⟨n9, hF⟩ := hF
  exact wc_X1_states_4 X hN hT n9 h v1 0 0 hF _ _ _ _ _ hB eh (lv_sub hl [2, 3, 1, 0] rfl) hH
set_option maxHeartbeats 4000000 in
set_option maxRecDepth 100000 in
theorem wc_X1_persons_71 {p : Program} {l : Launch} {e : Env} {s : State} {m : MethodId} {args : Array Value} {below : List Frame} {meth : Method} {c : Code} {D : va_G} {cA : Nat → ClassId} {P : Nat → Prop} {G : Nat × Nat × Nat} {C S : Nat} {o : Nat} {Q : Int32 → Prop} {K4 : ZH → Int32 → Int32 → Int32 → Prop} {h0 : ZH} (X : zc_Cx p l s m args meth c cX1_persons 4 (some .int) "ChurchyardBook" D cA P G) (hN : meth.name = "persons") (hT : c.exceptionTable.toList = tableOf []) (hK4 : ∀ (h : ZH) (v1 : Int32) (v2 : Int32) (v3 : Int32), K4 h v1 v2 v3 → ∀ (H : Heap) (locs : List Loc) (ls : Array Slot) (cells slots : Nat), cells + 0 ≤ C ∧ slots + 0 ≤ S → h0 = h → lv_has ls 4 [(0, .ref o), (1, .int v1), (2, .int v2), (3, .int v3)] → zc_H D cA P h s H locs → W p l e (zc_Ro 4 C S) s m args below meth c H locs cells slots (vx_MQ below (zc_Q D cA P (fun v h' => ∃ z : Int32, v = some (.int z) ∧ Q z ∧ h0 = h')) (zc_X D cA P zc_no) args s C S P) (F0 m 4 ls [])) :
    ∀ (h : ZH) (v1 : Int32) (v3 : Int32) (t0 : Int32) (t1 : Int32), fc_X1_persons_71 G o Q K4 h v1 v3 t0 t1 → ∀ (H : Heap) (locs : List Loc) (ls : Array Slot) (cells slots : Nat), cells + 0 ≤ C ∧ slots + 0 ≤ S → h0 = h → lv_has ls 4 [(0, .ref o), (1, .int v1), (3, .int v3)] → zc_H D cA P h s H locs → W p l e (zc_Ro 4 C S) s m args below meth c H locs cells slots (vx_MQ below (zc_Q D cA P (fun v h' => ∃ z : Int32, v = some (.int z) ∧ Q z ∧ h0 = h')) (zc_X D cA P zc_no) args s C S P) (F0 m 71 ls [.int t1, .int t0]) := by
  have hx := X.1
  have hb := X.2.1
  have hown := X.2.2.2.1
  have hts := X.2.2.2.2.1
  intro h v1 v3 t0 t1 hF
  intro H locs ls cells slots hB eh hl hH
  unfold fc_X1_persons_71 at hF
  refine lv_iadd hx hb dX1_persons_71 ?_
  refine lv_topi (fun x1 ex1 => ?_)
  have hF := hF x1 ex1
  refine lv_istore_n (lv' := [(2, .int x1), (0, .ref o), (1, .int v1), (3, .int v3)]) hx hb dX1_persons_72 rfl hl (by decide) rfl (fun ls hl => ?_)
  obtain ⟨x2, ex2⟩ : ∃ z : Int32, z = v3 + 1 := ⟨_, rfl⟩
  have hF := hF x2 ex2
  refine lv_iinc (v := x2) (lv' := [(3, .int x2), (2, .int x1), (0, .ref o), (1, .int v1)]) hx hb dX1_persons_73 hl (k := 3) rfl (by rw [ex2]; rfl) (by decide) rfl (fun ls hl => ?_)
  refine lv_goto (tgt := 4) hx hb dX1_persons_76 (by decide) ?_
  exact hK4 h v1 x1 x2 hF _ _ _ _ _ hB eh (lv_sub hl [2, 3, 1, 0] rfl) hH
set_option maxHeartbeats 4000000 in
set_option maxRecDepth 100000 in
theorem wc_X1_persons_70 {p : Program} {l : Launch} {e : Env} {s : State} {m : MethodId} {args : Array Value} {below : List Frame} {meth : Method} {c : Code} {D : va_G} {cA : Nat → ClassId} {P : Nat → Prop} {G : Nat × Nat × Nat} {C S : Nat} {o : Nat} {Q : Int32 → Prop} {K4 : ZH → Int32 → Int32 → Int32 → Prop} {h0 : ZH} (X : zc_Cx p l s m args meth c cX1_persons 4 (some .int) "ChurchyardBook" D cA P G) (hN : meth.name = "persons") (hT : c.exceptionTable.toList = tableOf []) (hK4 : ∀ (h : ZH) (v1 : Int32) (v2 : Int32) (v3 : Int32), K4 h v1 v2 v3 → ∀ (H : Heap) (locs : List Loc) (ls : Array Slot) (cells slots : Nat), cells + 0 ≤ C ∧ slots + 0 ≤ S → h0 = h → lv_has ls 4 [(0, .ref o), (1, .int v1), (2, .int v2), (3, .int v3)] → zc_H D cA P h s H locs → W p l e (zc_Ro 4 C S) s m args below meth c H locs cells slots (vx_MQ below (zc_Q D cA P (fun v h' => ∃ z : Int32, v = some (.int z) ∧ Q z ∧ h0 = h')) (zc_X D cA P zc_no) args s C S P) (F0 m 4 ls [])) :
    ∀ (h : ZH) (v1 : Int32) (v3 : Int32) (t0 : Int32), fc_X1_persons_70 G o Q K4 h v1 v3 t0 → ∀ (H : Heap) (locs : List Loc) (ls : Array Slot) (cells slots : Nat), cells + 0 ≤ C ∧ slots + 0 ≤ S → h0 = h → lv_has ls 4 [(0, .ref o), (1, .int v1), (3, .int v3)] → zc_H D cA P h s H locs → W p l e (zc_Ro 4 C S) s m args below meth c H locs cells slots (vx_MQ below (zc_Q D cA P (fun v h' => ∃ z : Int32, v = some (.int z) ∧ Q z ∧ h0 = h')) (zc_X D cA P zc_no) args s C S P) (F0 m 70 ls [.int t0]) := by
  have hx := X.1
  have hb := X.2.1
  have hown := X.2.2.2.1
  have hts := X.2.2.2.2.1
  intro h v1 v3 t0 hF
  intro H locs ls cells slots hB eh hl hH
  unfold fc_X1_persons_70 at hF
  refine lv_iconst (v := 0) hx hb dX1_persons_70 (by decide) ?_
  exact wc_X1_persons_71 X hN hT hK4 h v1 v3 t0 0 hF _ _ _ _ _ hB eh (lv_sub hl [0, 1, 2] rfl) hH
set_option maxHeartbeats 4000000 in
set_option maxRecDepth 100000 in
theorem wc_X1_persons_66 {p : Program} {l : Launch} {e : Env} {s : State} {m : MethodId} {args : Array Value} {below : List Frame} {meth : Method} {c : Code} {D : va_G} {cA : Nat → ClassId} {P : Nat → Prop} {G : Nat × Nat × Nat} {C S : Nat} {o : Nat} {Q : Int32 → Prop} {K4 : ZH → Int32 → Int32 → Int32 → Prop} {h0 : ZH} (X : zc_Cx p l s m args meth c cX1_persons 4 (some .int) "ChurchyardBook" D cA P G) (hN : meth.name = "persons") (hT : c.exceptionTable.toList = tableOf []) (hK4 : ∀ (h : ZH) (v1 : Int32) (v2 : Int32) (v3 : Int32), K4 h v1 v2 v3 → ∀ (H : Heap) (locs : List Loc) (ls : Array Slot) (cells slots : Nat), cells + 0 ≤ C ∧ slots + 0 ≤ S → h0 = h → lv_has ls 4 [(0, .ref o), (1, .int v1), (2, .int v2), (3, .int v3)] → zc_H D cA P h s H locs → W p l e (zc_Ro 4 C S) s m args below meth c H locs cells slots (vx_MQ below (zc_Q D cA P (fun v h' => ∃ z : Int32, v = some (.int z) ∧ Q z ∧ h0 = h')) (zc_X D cA P zc_no) args s C S P) (F0 m 4 ls [])) :
    ∀ (h : ZH) (v1 : Int32) (v3 : Int32) (t0 : Int32), fc_X1_persons_66 G o Q K4 h v1 v3 t0 → ∀ (H : Heap) (locs : List Loc) (ls : Array Slot) (cells slots : Nat), cells + 0 ≤ C ∧ slots + 0 ≤ S → h0 = h → lv_has ls 4 [(0, .ref o), (1, .int v1), (3, .int v3)] → zc_H D cA P h s H locs → W p l e (zc_Ro 4 C S) s m args below meth c H locs cells slots (vx_MQ below (zc_Q D cA P (fun v h' => ∃ z : Int32, v = some (.int z) ∧ Q z ∧ h0 = h')) (zc_X D cA P zc_no) args s C S P) (F0 m 66 ls [.int t0]) := by
  have hx := X.1
  have hb := X.2.1
  have hown := X.2.2.2.1
  have hts := X.2.2.2.2.1
  intro h v1 v3 t0 hF
  intro H locs ls cells slots hB eh hl hH
  unfold fc_X1_persons_66 at hF
  refine lv_iconst (v := 1) hx hb dX1_persons_66 (by decide) ?_
  refine lv_goto (tgt := 71) hx hb dX1_persons_67 (by decide) ?_
  exact wc_X1_persons_71 X hN hT hK4 h v1 v3 t0 1 hF _ _ _ _ _ hB eh (lv_sub hl [0, 1, 2] rfl) hH
set_option maxHeartbeats 4000000 in
set_option maxRecDepth 100000 in
theorem wc_X1_persons_4 {p : Program} {l : Launch} {e : Env} {s : State} {m : MethodId} {args : Array Value} {below : List Frame} {meth : Method} {c : Code} {D : va_G} {cA : Nat → ClassId} {P : Nat → Prop} {G : Nat × Nat × Nat} {C S : Nat} {o : Nat} {Q : Int32 → Prop} {h0 : ZH} (X : zc_Cx p l s m args meth c cX1_persons 4 (some .int) "ChurchyardBook" D cA P G) (hN : meth.name = "persons") (hT : c.exceptionTable.toList = tableOf []) :
    ∀ (n : Nat) (h : ZH) (v1 : Int32) (v2 : Int32) (v3 : Int32), fc_X1_persons_4 G o Q n h v1 v2 v3 → ∀ (H : Heap) (locs : List Loc) (ls : Array Slot) (cells slots : Nat), cells + 0 ≤ C ∧ slots + 0 ≤ S → h0 = h → lv_has ls 4 [(0, .ref o), (1, .int v1), (2, .int v2), (3, .int v3)] → zc_H D cA P h s H locs → W p l e (zc_Ro 4 C S) s m args below meth c H locs cells slots (vx_MQ below (zc_Q D cA P (fun v h' => ∃ z : Int32, v = some (.int z) ∧ Q z ∧ h0 = h')) (zc_X D cA P zc_no) args s C S P) (F0 m 4 ls []) := by
  have hx := X.1
  have hb := X.2.1
  have hown := X.2.2.2.1
  have hts := X.2.2.2.2.1
  intro n
  induction n with
  | zero =>
    intro h v1 v2 v3 hF
    exact False.elim hF
  | succ n ih =>
    intro h v1 v2 v3 hF
    intro H locs ls cells slots hB eh hl hH
    unfold fc_X1_persons_4 at hF
    refine lv_iload_n hx hb dX1_persons_4 rfl (lv_at hl 3 rfl) ?_
    refine lv_aload_n hx hb dX1_persons_5 rfl (lv_at hl 0 rfl) ?_
    obtain ⟨hc, hF⟩ := hF
    refine zc_getf X hH hc 2 102 ("ChurchyardBook", "book", "LChurchyardBook$Book;", false) (by decide +kernel) (v := va_rf (zr h 102 o)) rfl q216 (Or.inl rfl) dX1_persons_6 ?_
    obtain ⟨b1, eb1, hF⟩ := hF
    refine zq_st (st2 := [.ref b1, .int v3]) (by rw [eb1]; first | done | rfl) ?_
    obtain ⟨hc, hF⟩ := hF
    refine zc_getf X hH hc 2 202 ("ChurchyardBook$Book", "persons", "Ljava/util/ArrayList;", true) (by decide +kernel) (v := va_rf (zr h 202 b1)) rfl q193 (Or.inl rfl) dX1_persons_9 ?_
    obtain ⟨b2, eb2, hF⟩ := hF
    refine zq_st (st2 := [.ref b2, .int v3]) (by rw [eb2]; first | done | rfl) ?_
    obtain ⟨hc, hF⟩ := hF
    refine zc_call (c1 := 0) (s1 := 0) (rest := [.int v3]) hH hB (Nat.zero_le _) (Nat.zero_le _) (fun hf => zc_rV X hH hc (by decide) rfl (As := []) (wc_J2_size X.2.2.2.2.2.2.2.1 hF) (lw_V q1595 q350 q351 q94 q352) ⟨rfl, by decide, by decide, rfl⟩ ⟨Nat.le_of_ble_eq_true rfl, Nat.le_of_ble_eq_true rfl, Nat.le_of_ble_eq_true rfl⟩ rfl hl.1 (st0 := [.ref b2, .int v3]) rfl (Nat.le_of_ble_eq_true rfl) dX1_persons_12 hf) (fun E9 ce9 q9 h9 H locs hx9 => False.elim hx9) (fun v9 h9 H locs hv9 hH hB => ?_)
    obtain ⟨z3, rfl, hF, rfl⟩ := hv9
    refine lv_icmp_ge (tgt := 79) hx hb dX1_persons_15 (by decide) (fun cd => ?_) (fun cd => ?_)
    · have hF := hF.1 cd
      refine lv_iload_n hx hb dX1_persons_79 rfl (lv_at hl 2 rfl) ?_
      exact zc_iret X hH hB rfl rfl ⟨_, rfl, hF, eh⟩ dX1_persons_80
    · have hF := hF.2 cd
      refine lv_iload_n hx hb dX1_persons_18 rfl (lv_at hl 2 rfl) ?_
      refine lv_iload_n hx hb dX1_persons_19 rfl (lv_at hl 1 rfl) ?_
      refine lv_if_eq (tgt := 46) hx hb dX1_persons_20 (by decide) (fun cd => ?_) (fun cd => ?_)
      · have hF := hF.1 cd
        refine lv_aload_n hx hb dX1_persons_46 rfl (lv_at hl 0 rfl) ?_
        obtain ⟨hc, hF⟩ := hF
        refine zc_getf X hH hc 2 102 ("ChurchyardBook", "book", "LChurchyardBook$Book;", false) (by decide +kernel) (v := va_rf (zr h 102 o)) rfl q216 (Or.inl rfl) dX1_persons_47 ?_
        refine zq_st (st2 := [.ref b1, .int v2]) (by rw [eb1]; first | done | rfl) ?_
        obtain ⟨hc, hF⟩ := hF
        refine zc_getf X hH hc 2 202 ("ChurchyardBook$Book", "persons", "Ljava/util/ArrayList;", true) (by decide +kernel) (v := va_rf (zr h 202 b1)) rfl q193 (Or.inl rfl) dX1_persons_50 ?_
        refine lv_iload_n hx hb dX1_persons_53 rfl (lv_at hl 3 rfl) ?_
        refine zq_st (st2 := [.int v3, .ref b2, .int v2]) (by rw [eb2]; first | done | rfl) ?_
        obtain ⟨hc, hF⟩ := hF
        refine zc_call (c1 := 0) (s1 := 0) (rest := [.int v2]) hH hB (Nat.zero_le _) (Nat.zero_le _) (fun hf => zc_rV X hH hc (by decide) rfl (As := [.int v3]) (wc_J2_get X.2.2.2.2.2.2.2.1 hF) (lw_V q1596 q476 q477 q94 q478) ⟨rfl, by decide, by decide, rfl⟩ ⟨Nat.le_of_ble_eq_true rfl, Nat.le_of_ble_eq_true rfl, Nat.le_of_ble_eq_true rfl⟩ rfl hl.1 (st0 := [.int v3, .ref b2, .int v2]) rfl (Nat.le_of_ble_eq_true rfl) dX1_persons_54 hf) (fun E9 ce9 q9 h9 H locs hx9 => False.elim hx9) (fun v9 h9 H locs hv9 hH hB => ?_)
        obtain ⟨r4, rfl, hF, rfl⟩ := hv9
        obtain ⟨hR, hF⟩ := hF
        refine zc_castY X hH (r := r4) [14] "ChurchyardBook$Person" hR (by decide) (by decide +kernel) q1638 dX1_persons_57 ?_
        obtain ⟨b5, eb5, hF⟩ := hF
        refine zq_st (st2 := [.ref b5, .int v2]) (by rw [eb5]; first | done | rfl) ?_
        obtain ⟨hc, hF⟩ := hF
        refine zc_getf X hH hc 10 710 ("ChurchyardBook$Person", "grave", "LChurchyardBook$Grave;", false) (by decide +kernel) (v := va_rf (zr h 710 b5)) rfl q893 (Or.inl rfl) dX1_persons_60 ?_
        refine zq_ifnull (tgt := 70) hx hb dX1_persons_63 (by decide) (fun cd => ?_) (fun b6 eb6 => ?_)
        · have hF := hF.1 cd
          exact wc_X1_persons_70 X hN hT ih h v1 v3 v2 hF _ _ _ _ _ hB eh (lv_sub hl [0, 1, 3] rfl) hH
        · have hF := hF.2 b6 eb6
          exact wc_X1_persons_66 X hN hT ih h v1 v3 v2 hF _ _ _ _ _ hB eh (lv_sub hl [0, 1, 3] rfl) hH
      · have hF := hF.2 cd
        refine lv_aload_n hx hb dX1_persons_23 rfl (lv_at hl 0 rfl) ?_
        obtain ⟨hc, hF⟩ := hF
        refine zc_getf X hH hc 2 102 ("ChurchyardBook", "book", "LChurchyardBook$Book;", false) (by decide +kernel) (v := va_rf (zr h 102 o)) rfl q216 (Or.inl rfl) dX1_persons_24 ?_
        refine zq_st (st2 := [.ref b1, .int v2]) (by rw [eb1]; first | done | rfl) ?_
        obtain ⟨hc, hF⟩ := hF
        refine zc_getf X hH hc 2 202 ("ChurchyardBook$Book", "persons", "Ljava/util/ArrayList;", true) (by decide +kernel) (v := va_rf (zr h 202 b1)) rfl q193 (Or.inl rfl) dX1_persons_27 ?_
        refine lv_iload_n hx hb dX1_persons_30 rfl (lv_at hl 3 rfl) ?_
        refine zq_st (st2 := [.int v3, .ref b2, .int v2]) (by rw [eb2]; first | done | rfl) ?_
        obtain ⟨hc, hF⟩ := hF
        refine zc_call (c1 := 0) (s1 := 0) (rest := [.int v2]) hH hB (Nat.zero_le _) (Nat.zero_le _) (fun hf => zc_rV X hH hc (by decide) rfl (As := [.int v3]) (wc_J2_get X.2.2.2.2.2.2.2.1 hF) (lw_V q1596 q476 q477 q94 q478) ⟨rfl, by decide, by decide, rfl⟩ ⟨Nat.le_of_ble_eq_true rfl, Nat.le_of_ble_eq_true rfl, Nat.le_of_ble_eq_true rfl⟩ rfl hl.1 (st0 := [.int v3, .ref b2, .int v2]) rfl (Nat.le_of_ble_eq_true rfl) dX1_persons_31 hf) (fun E9 ce9 q9 h9 H locs hx9 => False.elim hx9) (fun v9 h9 H locs hv9 hH hB => ?_)
        obtain ⟨r7, rfl, hF, rfl⟩ := hv9
        obtain ⟨hR, hF⟩ := hF
        refine zc_castY X hH (r := r7) [14] "ChurchyardBook$Person" hR (by decide) (by decide +kernel) q1638 dX1_persons_34 ?_
        obtain ⟨b8, eb8, hF⟩ := hF
        refine zq_st (st2 := [.ref b8, .int v2]) (by rw [eb8]; first | done | rfl) ?_
        obtain ⟨hc, hF⟩ := hF
        refine zc_getf X hH hc 3 703 ("ChurchyardBook$Person", "isGone", "Z", false) (by decide +kernel) (v := .int (zi h 703 b8)) rfl q871 (Or.inl rfl) dX1_persons_37 ?_
        refine lv_if_eq (tgt := 70) hx hb dX1_persons_40 (by decide) (fun cd => ?_) (fun cd => ?_)
        · have hF := hF.1 cd
          exact wc_X1_persons_70 X hN hT ih h v1 v3 v2 hF _ _ _ _ _ hB eh (lv_sub hl [0, 1, 3] rfl) hH
        · have hF := hF.2 cd
          refine lv_goto (tgt := 66) hx hb dX1_persons_43 (by decide) ?_
          exact wc_X1_persons_66 X hN hT ih h v1 v3 v2 hF _ _ _ _ _ hB eh (lv_sub hl [0, 1, 3] rfl) hH
set_option maxHeartbeats 4000000 in
set_option maxRecDepth 100000 in
theorem wc_X1_persons {l : Launch} {D : va_G} {cA : Nat → ClassId} {P : Nat → Prop} {G : Nat × Nat × Nat} {o : Nat} {Q : Int32 → Prop} {h : ZH} {C S : Nat} {v1 : Int32} (hl9 : l.stackTraces = false) (hF : fc_X1_persons G o Q h v1) :
    zc_M l yX1_persons (ws_ yX1_persons cX1_persons 4 (some .int)) 4 D cA P G [.ref o, .int v1] h C S (fun v h' => ∃ z : Int32, v = some (.int z) ∧ Q z ∧ h = h') zc_no := by
  refine zc_ofF hl9 rfl (by decide +kernel) (Nat.le_of_ble_eq_true rfl) ?_
  intro p e s m args below meth c H locs ls X hN hT hH hl
  have hx := X.1
  have hb := X.2.1
  have hown := X.2.2.2.1
  have hts := X.2.2.2.2.1
  have hl : lv_has ls 4 [(0, .ref o), (1, .int v1)] := hl
  have hB : 0 + 0 ≤ C ∧ 0 + 0 ≤ S := ⟨by omega, by omega⟩
  have eh : h = h := rfl
  unfold fc_X1_persons at hF
  refine lv_iconst (v := 0) hx hb dX1_persons_0 (by decide) ?_
  refine lv_istore_n (lv' := [(2, .int 0), (0, .ref o), (1, .int v1)]) hx hb dX1_persons_1 rfl hl (by decide) rfl (fun ls hl => ?_)
  refine lv_iconst (v := 0) hx hb dX1_persons_2 (by decide) ?_
  refine lv_istore_n (lv' := [(3, .int 0), (2, .int 0), (0, .ref o), (1, .int v1)]) hx hb dX1_persons_3 rfl hl (by decide) rfl (fun ls hl => ?_)
  obtain ⟨n9, hF⟩ := hF
  exact wc_X1_persons_4 X hN hT n9 h v1 0 0 hF _ _ _ _ _ hB eh (lv_sub hl [2, 3, 1, 0] rfl) hH
set_option maxHeartbeats 4000000 in
set_option maxRecDepth 100000 in
theorem wc_X1_count {l : Launch} {D : va_G} {cA : Nat → ClassId} {P : Nat → Prop} {G : Nat × Nat × Nat} {o : Nat} {Q : Int32 → Prop} {h : ZH} {C S : Nat} {v1 : Int32} (hl9 : l.stackTraces = false) (hF : fc_X1_count G o Q h v1) :
    zc_M l yX1_count (ws_ yX1_count cX1_count 2 (some .int)) 5 D cA P G [.ref o, .int v1] h C S (fun v h' => ∃ z : Int32, v = some (.int z) ∧ Q z ∧ h = h') zc_no := by
  refine zc_ofF hl9 rfl (by decide +kernel) (Nat.le_of_ble_eq_true rfl) ?_
  intro p e s m args below meth c H locs ls X hN hT hH hl
  have hx := X.1
  have hb := X.2.1
  have hown := X.2.2.2.1
  have hts := X.2.2.2.2.1
  have hl : lv_has ls 2 [(0, .ref o), (1, .int v1)] := hl
  have hB : 0 + 0 ≤ C ∧ 0 + 0 ≤ S := ⟨by omega, by omega⟩
  have eh : h = h := rfl
  unfold fc_X1_count at hF
  refine lv_iload_n hx hb dX1_count_0 rfl (lv_at hl 1 rfl) ?_
  by_cases hsw : v1.toInt < 0 ∨ 13 < v1.toInt
  · have hF := hF.1 hsw
    refine lv_tableOut (tgt := 172) hx hb dX1_count_1 hsw (by decide) ?_
    refine lv_iconst (v := (-1)) hx hb dX1_count_172 (by decide) ?_
    exact zc_iret X hH hB rfl rfl ⟨_, rfl, hF, eh⟩ dX1_count_173
  · have hF := hF.2
    have hsw2 : v1.toInt = 0 ∨ v1.toInt = 1 ∨ v1.toInt = 2 ∨ v1.toInt = 3 ∨ v1.toInt = 4 ∨ v1.toInt = 5 ∨ v1.toInt = 6 ∨ v1.toInt = 7 ∨ v1.toInt = 8 ∨ v1.toInt = 9 ∨ v1.toInt = 10 ∨ v1.toInt = 11 ∨ v1.toInt = 12 ∨ v1.toInt = 13 := by omega
    rcases hsw2 with hk | hk | hk | hk | hk | hk | hk | hk | hk | hk | hk | hk | hk | hk
    · have hF := hF.1 hk
      refine lv_tableIn (tgt := 72) hx hb dX1_count_1 (by rw [hk]; decide) (by rw [hk]; decide) (by rw [hk]; rfl) (by decide) ?_
      refine lv_aload_n hx hb dX1_count_72 rfl (lv_at hl 0 rfl) ?_
      obtain ⟨hc, hF⟩ := hF
      refine zc_getf X hH hc 2 102 ("ChurchyardBook", "book", "LChurchyardBook$Book;", false) (by decide +kernel) (v := va_rf (zr h 102 o)) rfl q216 (Or.inl rfl) dX1_count_73 ?_
      obtain ⟨b1, eb1, hF⟩ := hF
      refine zq_st (st2 := [.ref b1]) (by rw [eb1]; first | done | rfl) ?_
      obtain ⟨hc, hF⟩ := hF
      refine zc_getf X hH hc 0 200 ("ChurchyardBook$Book", "fields", "Ljava/util/ArrayList;", true) (by decide +kernel) (v := va_rf (zr h 200 b1)) rfl q189 (Or.inl rfl) dX1_count_76 ?_
      obtain ⟨b2, eb2, hF⟩ := hF
      refine zq_st (st2 := [.ref b2]) (by rw [eb2]; first | done | rfl) ?_
      obtain ⟨hc, hF⟩ := hF
      refine zc_call (c1 := 0) (s1 := 0) (rest := []) hH hB (Nat.zero_le _) (Nat.zero_le _) (fun hf => zc_rV X hH hc (by decide) rfl (As := []) (wc_J2_size X.2.2.2.2.2.2.2.1 hF) (lw_V q1595 q350 q351 q94 q352) ⟨rfl, by decide, by decide, rfl⟩ ⟨Nat.le_of_ble_eq_true rfl, Nat.le_of_ble_eq_true rfl, Nat.le_of_ble_eq_true rfl⟩ rfl hl.1 (st0 := [.ref b2]) rfl (Nat.le_of_ble_eq_true rfl) dX1_count_79 hf) (fun E9 ce9 q9 h9 H locs hx9 => False.elim hx9) (fun v9 h9 H locs hv9 hH hB => ?_)
      obtain ⟨z3, rfl, hF, rfl⟩ := hv9
      exact zc_iret X hH hB rfl rfl ⟨_, rfl, hF, eh⟩ dX1_count_82
    · have hF := hF.2.1 hk
      refine lv_tableIn (tgt := 83) hx hb dX1_count_1 (by rw [hk]; decide) (by rw [hk]; decide) (by rw [hk]; rfl) (by decide) ?_
      refine lv_aload_n hx hb dX1_count_83 rfl (lv_at hl 0 rfl) ?_
      obtain ⟨hc, hF⟩ := hF
      refine zc_getf X hH hc 2 102 ("ChurchyardBook", "book", "LChurchyardBook$Book;", false) (by decide +kernel) (v := va_rf (zr h 102 o)) rfl q216 (Or.inl rfl) dX1_count_84 ?_
      obtain ⟨b4, eb4, hF⟩ := hF
      refine zq_st (st2 := [.ref b4]) (by rw [eb4]; first | done | rfl) ?_
      obtain ⟨hc, hF⟩ := hF
      refine zc_getf X hH hc 1 201 ("ChurchyardBook$Book", "graves", "Ljava/util/ArrayList;", true) (by decide +kernel) (v := va_rf (zr h 201 b4)) rfl q191 (Or.inl rfl) dX1_count_87 ?_
      obtain ⟨b5, eb5, hF⟩ := hF
      refine zq_st (st2 := [.ref b5]) (by rw [eb5]; first | done | rfl) ?_
      obtain ⟨hc, hF⟩ := hF
      refine zc_call (c1 := 0) (s1 := 0) (rest := []) hH hB (Nat.zero_le _) (Nat.zero_le _) (fun hf => zc_rV X hH hc (by decide) rfl (As := []) (wc_J2_size X.2.2.2.2.2.2.2.1 hF) (lw_V q1595 q350 q351 q94 q352) ⟨rfl, by decide, by decide, rfl⟩ ⟨Nat.le_of_ble_eq_true rfl, Nat.le_of_ble_eq_true rfl, Nat.le_of_ble_eq_true rfl⟩ rfl hl.1 (st0 := [.ref b5]) rfl (Nat.le_of_ble_eq_true rfl) dX1_count_90 hf) (fun E9 ce9 q9 h9 H locs hx9 => False.elim hx9) (fun v9 h9 H locs hv9 hH hB => ?_)
      obtain ⟨z6, rfl, hF, rfl⟩ := hv9
      exact zc_iret X hH hB rfl rfl ⟨_, rfl, hF, eh⟩ dX1_count_93
    · have hF := hF.2.2.1 hk
      refine lv_tableIn (tgt := 94) hx hb dX1_count_1 (by rw [hk]; decide) (by rw [hk]; decide) (by rw [hk]; rfl) (by decide) ?_
      refine lv_aload_n hx hb dX1_count_94 rfl (lv_at hl 0 rfl) ?_
      obtain ⟨hc, hF⟩ := hF
      refine zc_getf X hH hc 2 102 ("ChurchyardBook", "book", "LChurchyardBook$Book;", false) (by decide +kernel) (v := va_rf (zr h 102 o)) rfl q216 (Or.inl rfl) dX1_count_95 ?_
      obtain ⟨b7, eb7, hF⟩ := hF
      refine zq_st (st2 := [.ref b7]) (by rw [eb7]; first | done | rfl) ?_
      obtain ⟨hc, hF⟩ := hF
      refine zc_getf X hH hc 2 202 ("ChurchyardBook$Book", "persons", "Ljava/util/ArrayList;", true) (by decide +kernel) (v := va_rf (zr h 202 b7)) rfl q193 (Or.inl rfl) dX1_count_98 ?_
      obtain ⟨b8, eb8, hF⟩ := hF
      refine zq_st (st2 := [.ref b8]) (by rw [eb8]; first | done | rfl) ?_
      obtain ⟨hc, hF⟩ := hF
      refine zc_call (c1 := 0) (s1 := 0) (rest := []) hH hB (Nat.zero_le _) (Nat.zero_le _) (fun hf => zc_rV X hH hc (by decide) rfl (As := []) (wc_J2_size X.2.2.2.2.2.2.2.1 hF) (lw_V q1595 q350 q351 q94 q352) ⟨rfl, by decide, by decide, rfl⟩ ⟨Nat.le_of_ble_eq_true rfl, Nat.le_of_ble_eq_true rfl, Nat.le_of_ble_eq_true rfl⟩ rfl hl.1 (st0 := [.ref b8]) rfl (Nat.le_of_ble_eq_true rfl) dX1_count_101 hf) (fun E9 ce9 q9 h9 H locs hx9 => False.elim hx9) (fun v9 h9 H locs hv9 hH hB => ?_)
      obtain ⟨z9, rfl, hF, rfl⟩ := hv9
      exact zc_iret X hH hB rfl rfl ⟨_, rfl, hF, eh⟩ dX1_count_104
    · have hF := hF.2.2.2.1 hk
      refine lv_tableIn (tgt := 105) hx hb dX1_count_1 (by rw [hk]; decide) (by rw [hk]; decide) (by rw [hk]; rfl) (by decide) ?_
      refine lv_aload_n hx hb dX1_count_105 rfl (lv_at hl 0 rfl) ?_
      obtain ⟨hc, hF⟩ := hF
      refine zc_getf X hH hc 2 102 ("ChurchyardBook", "book", "LChurchyardBook$Book;", false) (by decide +kernel) (v := va_rf (zr h 102 o)) rfl q216 (Or.inl rfl) dX1_count_106 ?_
      obtain ⟨b10, eb10, hF⟩ := hF
      refine zq_st (st2 := [.ref b10]) (by rw [eb10]; first | done | rfl) ?_
      obtain ⟨hc, hF⟩ := hF
      refine zc_getf X hH hc 3 203 ("ChurchyardBook$Book", "today", "I", false) (by decide +kernel) (v := .int (zi h 203 b10)) rfl q195 (Or.inl rfl) dX1_count_109 ?_
      exact zc_iret X hH hB rfl rfl ⟨_, rfl, hF, eh⟩ dX1_count_112
    · have hF := hF.2.2.2.2.1 hk
      refine lv_tableIn (tgt := 113) hx hb dX1_count_1 (by rw [hk]; decide) (by rw [hk]; decide) (by rw [hk]; rfl) (by decide) ?_
      refine lv_aload_n hx hb dX1_count_113 rfl (lv_at hl 0 rfl) ?_
      obtain ⟨hc, hF⟩ := hF
      refine zc_getf X hH hc 4 104 ("ChurchyardBook", "many", "I", false) (by decide +kernel) (v := .int (zi h 104 o)) rfl q218 (Or.inl rfl) dX1_count_114 ?_
      exact zc_iret X hH hB rfl rfl ⟨_, rfl, hF, eh⟩ dX1_count_117
    · have hF := hF.2.2.2.2.2.1 hk
      refine lv_tableIn (tgt := 118) hx hb dX1_count_1 (by rw [hk]; decide) (by rw [hk]; decide) (by rw [hk]; rfl) (by decide) ?_
      refine lv_aload_n hx hb dX1_count_118 rfl (lv_at hl 0 rfl) ?_
      obtain ⟨hc, hF⟩ := hF
      refine zc_getf X hH hc 2 102 ("ChurchyardBook", "book", "LChurchyardBook$Book;", false) (by decide +kernel) (v := va_rf (zr h 102 o)) rfl q216 (Or.inl rfl) dX1_count_119 ?_
      obtain ⟨b11, eb11, hF⟩ := hF
      refine zq_st (st2 := [.ref b11]) (by rw [eb11]; first | done | rfl) ?_
      obtain ⟨hc, hF⟩ := hF
      refine zc_getf X hH hc 4 204 ("ChurchyardBook$Book", "prices", "I", false) (by decide +kernel) (v := .int (zi h 204 b11)) rfl q197 (Or.inl rfl) dX1_count_122 ?_
      exact zc_iret X hH hB rfl rfl ⟨_, rfl, hF, eh⟩ dX1_count_125
    · have hF := hF.2.2.2.2.2.2.1 hk
      refine lv_tableIn (tgt := 126) hx hb dX1_count_1 (by rw [hk]; decide) (by rw [hk]; decide) (by rw [hk]; rfl) (by decide) ?_
      refine lv_aload_n hx hb dX1_count_126 rfl (lv_at hl 0 rfl) ?_
      refine lv_iconst (v := 0) hx hb dX1_count_127 (by decide) ?_
      obtain ⟨hc, hF⟩ := hF
      refine zc_call (c1 := 0) (s1 := 0) (rest := []) hH hB (Nat.zero_le _) (Nat.zero_le _) (fun hf => zc_rV X hH hc (by decide) rfl (As := [.int 0]) (wc_X1_persons X.2.2.2.2.2.2.2.1 hF) (lw_V q1657 q1659 qs26 q87 q1660) ⟨rfl, by decide, by decide, rfl⟩ ⟨Nat.le_of_ble_eq_true rfl, Nat.le_of_ble_eq_true rfl, Nat.le_of_ble_eq_true rfl⟩ rfl hl.1 (st0 := [.int 0, .ref o]) rfl (Nat.le_of_ble_eq_true rfl) dX1_count_128 hf) (fun E9 ce9 q9 h9 H locs hx9 => False.elim hx9) (fun v9 h9 H locs hv9 hH hB => ?_)
      obtain ⟨z12, rfl, hF, rfl⟩ := hv9
      exact zc_iret X hH hB rfl rfl ⟨_, rfl, hF, eh⟩ dX1_count_131
    · have hF := hF.2.2.2.2.2.2.2.1 hk
      refine lv_tableIn (tgt := 132) hx hb dX1_count_1 (by rw [hk]; decide) (by rw [hk]; decide) (by rw [hk]; rfl) (by decide) ?_
      refine lv_aload_n hx hb dX1_count_132 rfl (lv_at hl 0 rfl) ?_
      refine lv_iconst (v := 1) hx hb dX1_count_133 (by decide) ?_
      obtain ⟨hc, hF⟩ := hF
      refine zc_call (c1 := 0) (s1 := 0) (rest := []) hH hB (Nat.zero_le _) (Nat.zero_le _) (fun hf => zc_rV X hH hc (by decide) rfl (As := [.int 1]) (wc_X1_persons X.2.2.2.2.2.2.2.1 hF) (lw_V q1657 q1659 qs26 q87 q1660) ⟨rfl, by decide, by decide, rfl⟩ ⟨Nat.le_of_ble_eq_true rfl, Nat.le_of_ble_eq_true rfl, Nat.le_of_ble_eq_true rfl⟩ rfl hl.1 (st0 := [.int 1, .ref o]) rfl (Nat.le_of_ble_eq_true rfl) dX1_count_134 hf) (fun E9 ce9 q9 h9 H locs hx9 => False.elim hx9) (fun v9 h9 H locs hv9 hH hB => ?_)
      obtain ⟨z13, rfl, hF, rfl⟩ := hv9
      exact zc_iret X hH hB rfl rfl ⟨_, rfl, hF, eh⟩ dX1_count_137
    · have hF := hF.2.2.2.2.2.2.2.2.1 hk
      refine lv_tableIn (tgt := 138) hx hb dX1_count_1 (by rw [hk]; decide) (by rw [hk]; decide) (by rw [hk]; rfl) (by decide) ?_
      refine lv_aload_n hx hb dX1_count_138 rfl (lv_at hl 0 rfl) ?_
      refine lv_iconst (v := 1) hx hb dX1_count_139 (by decide) ?_
      obtain ⟨hc, hF⟩ := hF
      refine zc_call (c1 := 0) (s1 := 0) (rest := []) hH hB (Nat.zero_le _) (Nat.zero_le _) (fun hf => zc_rV X hH hc (by decide) rfl (As := [.int 1]) (wc_X1_states X.2.2.2.2.2.2.2.1 hF) (lw_V q1661 q1663 qs27 q87 q1664) ⟨rfl, by decide, by decide, rfl⟩ ⟨Nat.le_of_ble_eq_true rfl, Nat.le_of_ble_eq_true rfl, Nat.le_of_ble_eq_true rfl⟩ rfl hl.1 (st0 := [.int 1, .ref o]) rfl (Nat.le_of_ble_eq_true rfl) dX1_count_140 hf) (fun E9 ce9 q9 h9 H locs hx9 => False.elim hx9) (fun v9 h9 H locs hv9 hH hB => ?_)
      obtain ⟨z14, rfl, hF, rfl⟩ := hv9
      exact zc_iret X hH hB rfl rfl ⟨_, rfl, hF, eh⟩ dX1_count_143
    · have hF := hF.2.2.2.2.2.2.2.2.2.1 hk
      refine lv_tableIn (tgt := 144) hx hb dX1_count_1 (by rw [hk]; decide) (by rw [hk]; decide) (by rw [hk]; rfl) (by decide) ?_
      refine lv_aload_n hx hb dX1_count_144 rfl (lv_at hl 0 rfl) ?_
      refine lv_iconst (v := 2) hx hb dX1_count_145 (by decide) ?_
      obtain ⟨hc, hF⟩ := hF
      refine zc_call (c1 := 0) (s1 := 0) (rest := []) hH hB (Nat.zero_le _) (Nat.zero_le _) (fun hf => zc_rV X hH hc (by decide) rfl (As := [.int 2]) (wc_X1_states X.2.2.2.2.2.2.2.1 hF) (lw_V q1661 q1663 qs27 q87 q1664) ⟨rfl, by decide, by decide, rfl⟩ ⟨Nat.le_of_ble_eq_true rfl, Nat.le_of_ble_eq_true rfl, Nat.le_of_ble_eq_true rfl⟩ rfl hl.1 (st0 := [.int 2, .ref o]) rfl (Nat.le_of_ble_eq_true rfl) dX1_count_146 hf) (fun E9 ce9 q9 h9 H locs hx9 => False.elim hx9) (fun v9 h9 H locs hv9 hH hB => ?_)
      obtain ⟨z15, rfl, hF, rfl⟩ := hv9
      exact zc_iret X hH hB rfl rfl ⟨_, rfl, hF, eh⟩ dX1_count_149
    · have hF := hF.2.2.2.2.2.2.2.2.2.2.1 hk
      refine lv_tableIn (tgt := 150) hx hb dX1_count_1 (by rw [hk]; decide) (by rw [hk]; decide) (by rw [hk]; rfl) (by decide) ?_
      refine lv_aload_n hx hb dX1_count_150 rfl (lv_at hl 0 rfl) ?_
      refine lv_iconst (v := 3) hx hb dX1_count_151 (by decide) ?_
      obtain ⟨hc, hF⟩ := hF
      refine zc_call (c1 := 0) (s1 := 0) (rest := []) hH hB (Nat.zero_le _) (Nat.zero_le _) (fun hf => zc_rV X hH hc (by decide) rfl (As := [.int 3]) (wc_X1_states X.2.2.2.2.2.2.2.1 hF) (lw_V q1661 q1663 qs27 q87 q1664) ⟨rfl, by decide, by decide, rfl⟩ ⟨Nat.le_of_ble_eq_true rfl, Nat.le_of_ble_eq_true rfl, Nat.le_of_ble_eq_true rfl⟩ rfl hl.1 (st0 := [.int 3, .ref o]) rfl (Nat.le_of_ble_eq_true rfl) dX1_count_152 hf) (fun E9 ce9 q9 h9 H locs hx9 => False.elim hx9) (fun v9 h9 H locs hv9 hH hB => ?_)
      obtain ⟨z16, rfl, hF, rfl⟩ := hv9
      exact zc_iret X hH hB rfl rfl ⟨_, rfl, hF, eh⟩ dX1_count_155
    · have hF := hF.2.2.2.2.2.2.2.2.2.2.2.1 hk
      refine lv_tableIn (tgt := 156) hx hb dX1_count_1 (by rw [hk]; decide) (by rw [hk]; decide) (by rw [hk]; rfl) (by decide) ?_
      refine lv_aload_n hx hb dX1_count_156 rfl (lv_at hl 0 rfl) ?_
      refine lv_iconst (v := 4) hx hb dX1_count_157 (by decide) ?_
      obtain ⟨hc, hF⟩ := hF
      refine zc_call (c1 := 0) (s1 := 0) (rest := []) hH hB (Nat.zero_le _) (Nat.zero_le _) (fun hf => zc_rV X hH hc (by decide) rfl (As := [.int 4]) (wc_X1_states X.2.2.2.2.2.2.2.1 hF) (lw_V q1661 q1663 qs27 q87 q1664) ⟨rfl, by decide, by decide, rfl⟩ ⟨Nat.le_of_ble_eq_true rfl, Nat.le_of_ble_eq_true rfl, Nat.le_of_ble_eq_true rfl⟩ rfl hl.1 (st0 := [.int 4, .ref o]) rfl (Nat.le_of_ble_eq_true rfl) dX1_count_158 hf) (fun E9 ce9 q9 h9 H locs hx9 => False.elim hx9) (fun v9 h9 H locs hv9 hH hB => ?_)
      obtain ⟨z17, rfl, hF, rfl⟩ := hv9
      exact zc_iret X hH hB rfl rfl ⟨_, rfl, hF, eh⟩ dX1_count_161
    · have hF := hF.2.2.2.2.2.2.2.2.2.2.2.2.1 hk
      refine lv_tableIn (tgt := 162) hx hb dX1_count_1 (by rw [hk]; decide) (by rw [hk]; decide) (by rw [hk]; rfl) (by decide) ?_
      refine lv_aload_n hx hb dX1_count_162 rfl (lv_at hl 0 rfl) ?_
      obtain ⟨hc, hF⟩ := hF
      refine zc_getf X hH hc 6 106 ("ChurchyardBook", "taped", "I", false) (by decide +kernel) (v := .int (zi h 106 o)) rfl q220 (Or.inl rfl) dX1_count_163 ?_
      exact zc_iret X hH hB rfl rfl ⟨_, rfl, hF, eh⟩ dX1_count_166
    · have hF := hF.2.2.2.2.2.2.2.2.2.2.2.2.2 hk
      refine lv_tableIn (tgt := 167) hx hb dX1_count_1 (by rw [hk]; decide) (by rw [hk]; decide) (by rw [hk]; rfl) (by decide) ?_
      refine lv_aload_n hx hb dX1_count_167 rfl (lv_at hl 0 rfl) ?_
      obtain ⟨hc, hF⟩ := hF
      refine zc_getf X hH hc 7 107 ("ChurchyardBook", "tries", "I", false) (by decide +kernel) (v := .int (zi h 107 o)) rfl q221 (Or.inl rfl) dX1_count_168 ?_
      exact zc_iret X hH hB rfl rfl ⟨_, rfl, hF, eh⟩ dX1_count_171
