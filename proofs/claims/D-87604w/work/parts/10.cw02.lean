/-! THE COMPONENT SIDE: the walks, printed by gen_comp.py -/
set_option maxRecDepth 100000
set_option maxHeartbeats 4000000 in
set_option maxRecDepth 100000 in
theorem wc_X5_asks_75 {p : Program} {l : Launch} {e : Env} {s : State} {m : MethodId} {args : Array Value} {below : List Frame} {meth : Method} {c : Code} {D : va_G} {cA : Nat → ClassId} {P : Nat → Prop} {G : Nat × Nat × Nat} {C S : Nat} {o : Nat} {Q : Prop} {XE : String → Nat → ZH → Prop} {h0 : ZH} (X : zc_Cx p l s m args meth c cX5_asks 6 none "ChurchyardBook$Book" D cA P G) (hN : meth.name = "asks") (hT : c.exceptionTable.toList = tableOf []) :
    ∀ (h : ZH) (bc bs : Nat), fc_X5_asks_75 G o Q XE h bc bs → ∀ (H : Heap) (locs : List Loc) (ls : Array Slot) (cells slots : Nat), cells + bc ≤ C ∧ slots + bs ≤ S → h0 = h → lv_has ls 6 [(0, .ref o)] → zc_H D cA P h s H locs → W p l e (zc_Ro 4 C S) s m args below meth c H locs cells slots (vx_MQ below (zc_Q D cA P (fun v h' => v = none ∧ Q ∧ h0 = h')) (zc_X D cA P XE) args s C S P) (F0 m 75 ls []) := by
  have hx := X.1
  have hb := X.2.1
  have hown := X.2.2.2.1
  have hts := X.2.2.2.2.1
  intro h bc bs hF
  intro H locs ls cells slots hB eh hl hH
  unfold fc_X5_asks_75 at hF
  refine lv_iconst (v := 0) hx hb dX5_asks_75 (by decide) ?_
  exact wc_X5_asks_76 X hN hT h bc bs 0 hF _ _ _ _ _ hB eh (lv_sub hl [0] rfl) hH
set_option maxHeartbeats 4000000 in
set_option maxRecDepth 100000 in
theorem wc_X5_asks_71 {p : Program} {l : Launch} {e : Env} {s : State} {m : MethodId} {args : Array Value} {below : List Frame} {meth : Method} {c : Code} {D : va_G} {cA : Nat → ClassId} {P : Nat → Prop} {G : Nat × Nat × Nat} {C S : Nat} {o : Nat} {Q : Prop} {XE : String → Nat → ZH → Prop} {h0 : ZH} (X : zc_Cx p l s m args meth c cX5_asks 6 none "ChurchyardBook$Book" D cA P G) (hN : meth.name = "asks") (hT : c.exceptionTable.toList = tableOf []) :
    ∀ (h : ZH) (bc bs : Nat), fc_X5_asks_71 G o Q XE h bc bs → ∀ (H : Heap) (locs : List Loc) (ls : Array Slot) (cells slots : Nat), cells + bc ≤ C ∧ slots + bs ≤ S → h0 = h → lv_has ls 6 [(0, .ref o)] → zc_H D cA P h s H locs → W p l e (zc_Ro 4 C S) s m args below meth c H locs cells slots (vx_MQ below (zc_Q D cA P (fun v h' => v = none ∧ Q ∧ h0 = h')) (zc_X D cA P XE) args s C S P) (F0 m 71 ls []) := by
  have hx := X.1
  have hb := X.2.1
  have hown := X.2.2.2.1
  have hts := X.2.2.2.2.1
  intro h bc bs hF
  intro H locs ls cells slots hB eh hl hH
  unfold fc_X5_asks_71 at hF
  refine lv_iconst (v := 1) hx hb dX5_asks_71 (by decide) ?_
  refine lv_goto (tgt := 76) hx hb dX5_asks_72 (by decide) ?_
  exact wc_X5_asks_76 X hN hT h bc bs 1 hF _ _ _ _ _ hB eh (lv_sub hl [0] rfl) hH
set_option maxHeartbeats 4000000 in
set_option maxRecDepth 100000 in
theorem wc_X5_asks_27 {p : Program} {l : Launch} {e : Env} {s : State} {m : MethodId} {args : Array Value} {below : List Frame} {meth : Method} {c : Code} {D : va_G} {cA : Nat → ClassId} {P : Nat → Prop} {G : Nat × Nat × Nat} {C S : Nat} {o : Nat} {Q : Prop} {XE : String → Nat → ZH → Prop} {K3 : ZH → Nat → Nat → Option Nat → Int32 → Int32 → Int32 → Int32 → Prop} {h0 : ZH} (X : zc_Cx p l s m args meth c cX5_asks 6 none "ChurchyardBook$Book" D cA P G) (hN : meth.name = "asks") (hT : c.exceptionTable.toList = tableOf []) (hK3 : ∀ (h : ZH) (bc bs : Nat) (q1 : Option Nat) (v2 : Int32) (v3 : Int32) (v4 : Int32) (v5 : Int32), K3 h bc bs q1 v2 v3 v4 v5 → ∀ (H : Heap) (locs : List Loc) (ls : Array Slot) (cells slots : Nat), cells + bc ≤ C ∧ slots + bs ≤ S → h0 = h → lv_has ls 6 [(0, .ref o), (1, va_rf q1), (2, .int v2), (3, .int v3), (4, .int v4), (5, .int v5)] → zc_H D cA P h s H locs → W p l e (zc_Ro 4 C S) s m args below meth c H locs cells slots (vx_MQ below (zc_Q D cA P (fun v h' => v = none ∧ Q ∧ h0 = h')) (zc_X D cA P XE) args s C S P) (F0 m 3 ls [])) :
    ∀ (h : ZH) (bc bs : Nat) (q1 : Option Nat) (v2 : Int32) (v3 : Int32) (v4 : Int32) (v5 : Int32) (t0 : Int32), fc_X5_asks_27 G o Q XE K3 h bc bs q1 v2 v3 v4 v5 t0 → ∀ (H : Heap) (locs : List Loc) (ls : Array Slot) (cells slots : Nat), cells + bc ≤ C ∧ slots + bs ≤ S → h0 = h → lv_has ls 6 [(0, .ref o), (1, va_rf q1), (2, .int v2), (3, .int v3), (4, .int v4), (5, .int v5)] → zc_H D cA P h s H locs → W p l e (zc_Ro 4 C S) s m args below meth c H locs cells slots (vx_MQ below (zc_Q D cA P (fun v h' => v = none ∧ Q ∧ h0 = h')) (zc_X D cA P XE) args s C S P) (F0 m 27 ls [.int t0]) := by
  have hx := X.1
  have hb := X.2.1
  have hown := X.2.2.2.1
  have hts := X.2.2.2.2.1
  intro h bc bs q1 v2 v3 v4 v5 t0 hF
  intro H locs ls cells slots hB eh hl hH
  unfold fc_X5_asks_27 at hF
  refine lv_bipush (v := (-6)) hx hb dX5_asks_27 (by decide) ?_
  obtain ⟨c1, s2, hc1, hs1, hF⟩ := hF
  refine zc_call (c1 := c1) (s1 := s2) (rest := []) hH hB hc1 hs1 (fun hf => zc_rSN X hH (As := [.int t0, .int (-6)]) (host := "ChurchyardBook") (wc_X1_need X.2.2.2.2.2.2.2.1 hF) (lw_meth q265) (by decide +kernel) q87 q264 ⟨by decide, by decide, rfl⟩ ⟨Nat.le_of_ble_eq_true rfl, Nat.le_of_ble_eq_true rfl, Nat.le_of_ble_eq_true rfl⟩ rfl hl.1 (st0 := [.int (-6), .int t0]) rfl (Nat.le_of_ble_eq_true rfl) dX5_asks_29 hf) (fun E9 ce9 q3 h4 H locs hx9 hH hB hce hcv hcl => ?_) (fun v9 h9 H locs hv9 hH hB => ?_)
  · exact zc_out X hH hB (by rw [hT]; intro x hx9; cases hx9) hce hcv hcl hx9
  obtain ⟨rfl, hF, rfl⟩ := hv9
  obtain ⟨x5, ex5⟩ : ∃ z : Int32, z = v5 + 1 := ⟨_, rfl⟩
  have hF := hF x5 ex5
  refine lv_iinc (v := x5) (lv' := [(5, .int x5), (0, .ref o), (1, va_rf q1), (2, .int v2), (3, .int v3), (4, .int v4)]) hx hb dX5_asks_32 hl (k := 5) rfl (by rw [ex5]; rfl) (by decide) rfl (fun ls hl => ?_)
  refine lv_goto (tgt := 3) hx hb dX5_asks_35 (by decide) ?_
  exact hK3 h (bc - c1) (bs - s2) q1 v2 v3 v4 x5 hF _ _ _ _ _ hB eh (lv_sub hl [1, 2, 3, 4, 5, 0] rfl) hH
set_option maxHeartbeats 4000000 in
set_option maxRecDepth 100000 in
theorem wc_X5_asks_3 {p : Program} {l : Launch} {e : Env} {s : State} {m : MethodId} {args : Array Value} {below : List Frame} {meth : Method} {c : Code} {D : va_G} {cA : Nat → ClassId} {P : Nat → Prop} {G : Nat × Nat × Nat} {C S : Nat} {o : Nat} {Q : Prop} {XE : String → Nat → ZH → Prop} {h0 : ZH} (X : zc_Cx p l s m args meth c cX5_asks 6 none "ChurchyardBook$Book" D cA P G) (hN : meth.name = "asks") (hT : c.exceptionTable.toList = tableOf []) :
    ∀ (n : Nat) (h : ZH) (bc bs : Nat) (q1 : Option Nat) (v2 : Int32) (v3 : Int32) (v4 : Int32) (v5 : Int32), fc_X5_asks_3 G o Q XE n h bc bs q1 v2 v3 v4 v5 → ∀ (H : Heap) (locs : List Loc) (ls : Array Slot) (cells slots : Nat), cells + bc ≤ C ∧ slots + bs ≤ S → h0 = h → lv_has ls 6 [(0, .ref o), (1, va_rf q1), (2, .int v2), (3, .int v3), (4, .int v4), (5, .int v5)] → zc_H D cA P h s H locs → W p l e (zc_Ro 4 C S) s m args below meth c H locs cells slots (vx_MQ below (zc_Q D cA P (fun v h' => v = none ∧ Q ∧ h0 = h')) (zc_X D cA P XE) args s C S P) (F0 m 3 ls []) := by
  have hx := X.1
  have hb := X.2.1
  have hown := X.2.2.2.1
  have hts := X.2.2.2.2.1
  intro n
  induction n with
  | zero =>
    intro h bc bs q1 v2 v3 v4 v5 hF
    exact False.elim hF
  | succ n ih =>
    intro h bc bs q1 v2 v3 v4 v5 hF
    intro H locs ls cells slots hB eh hl hH
    unfold fc_X5_asks_3 at hF
    refine lv_iload hx hb dX5_asks_3 (lv_at hl 5 rfl) ?_
    refine lv_iload hx hb dX5_asks_5 (lv_at hl 4 rfl) ?_
    refine lv_icmp_ge (tgt := 38) hx hb dX5_asks_7 (by decide) (fun cd => ?_) (fun cd => ?_)
    · have hF := hF.1 cd
      refine lv_iload_n hx hb dX5_asks_38 rfl (lv_at hl 3 rfl) ?_
      refine lv_iconst (v := 4) hx hb dX5_asks_39 (by decide) ?_
      refine lv_icmp_eq (tgt := 71) hx hb dX5_asks_40 (by decide) (fun cd => ?_) (fun cd => ?_)
      · have hF := hF.1 cd
        exact wc_X5_asks_71 X hN hT h bc bs hF _ _ _ _ _ hB eh (lv_sub hl [0] rfl) hH
      · have hF := hF.2 cd
        refine lv_iload_n hx hb dX5_asks_43 rfl (lv_at hl 3 rfl) ?_
        refine lv_iconst (v := 5) hx hb dX5_asks_44 (by decide) ?_
        refine lv_icmp_eq (tgt := 71) hx hb dX5_asks_45 (by decide) (fun cd => ?_) (fun cd => ?_)
        · have hF := hF.1 cd
          exact wc_X5_asks_71 X hN hT h bc bs hF _ _ _ _ _ hB eh (lv_sub hl [0] rfl) hH
        · have hF := hF.2 cd
          refine lv_aload_n hx hb dX5_asks_48 rfl (lv_at hl 0 rfl) ?_
          refine zq_aload_n hx hb dX5_asks_49 rfl (lv_at hl 1 rfl) ?_
          refine lv_iload_n hx hb dX5_asks_50 rfl (lv_at hl 2 rfl) ?_
          refine lv_iconst (v := 1) hx hb dX5_asks_51 (by decide) ?_
          refine lv_isub hx hb dX5_asks_52 ?_
          obtain ⟨hc, hF⟩ := hF
          refine zc_call (c1 := 0) (s1 := 0) (rest := []) hH hB (Nat.zero_le _) (Nat.zero_le _) (fun hf => zc_rV X hH hc (by decide) rfl (As := [va_rf q1, .int (v2 - 1)]) (wc_X5_isTree X.2.2.2.2.2.2.2.1 hF) (lw_V q635 q637 qs9 q91 q638) ⟨rfl, by decide, by decide, rfl⟩ ⟨Nat.le_of_ble_eq_true rfl, Nat.le_of_ble_eq_true rfl, Nat.le_of_ble_eq_true rfl⟩ rfl hl.1 (st0 := [.int (v2 - 1), va_rf q1, .ref o]) rfl (Nat.le_of_ble_eq_true rfl) dX5_asks_53 hf) (fun E9 ce9 q9 h9 H locs hx9 => False.elim hx9) (fun v9 h9 H locs hv9 hH hB => ?_)
          obtain ⟨z1, rfl, hF, rfl⟩ := hv9
          refine lv_if_ne (tgt := 75) hx hb dX5_asks_56 (by decide) (fun cd => ?_) (fun cd => ?_)
          · have hF := hF.1 cd
            exact wc_X5_asks_75 X hN hT h bc bs hF _ _ _ _ _ hB eh (lv_sub hl [0] rfl) hH
          · have hF := hF.2 cd
            refine lv_aload_n hx hb dX5_asks_59 rfl (lv_at hl 0 rfl) ?_
            refine zq_aload_n hx hb dX5_asks_60 rfl (lv_at hl 1 rfl) ?_
            refine lv_iload_n hx hb dX5_asks_61 rfl (lv_at hl 2 rfl) ?_
            refine lv_iload hx hb dX5_asks_62 (lv_at hl 4 rfl) ?_
            refine lv_iadd hx hb dX5_asks_64 ?_
            obtain ⟨hc, hF⟩ := hF
            refine zc_call (c1 := 0) (s1 := 0) (rest := []) hH hB (Nat.zero_le _) (Nat.zero_le _) (fun hf => zc_rV X hH hc (by decide) rfl (As := [va_rf q1, .int (v2 + v4)]) (wc_X5_isTree X.2.2.2.2.2.2.2.1 hF) (lw_V q635 q637 qs9 q91 q638) ⟨rfl, by decide, by decide, rfl⟩ ⟨Nat.le_of_ble_eq_true rfl, Nat.le_of_ble_eq_true rfl, Nat.le_of_ble_eq_true rfl⟩ rfl hl.1 (st0 := [.int (v2 + v4), va_rf q1, .ref o]) rfl (Nat.le_of_ble_eq_true rfl) dX5_asks_65 hf) (fun E9 ce9 q9 h9 H locs hx9 => False.elim hx9) (fun v9 h9 H locs hv9 hH hB => ?_)
            obtain ⟨z2, rfl, hF, rfl⟩ := hv9
            refine lv_if_ne (tgt := 75) hx hb dX5_asks_68 (by decide) (fun cd => ?_) (fun cd => ?_)
            · have hF := hF.1 cd
              exact wc_X5_asks_75 X hN hT h bc bs hF _ _ _ _ _ hB eh (lv_sub hl [0] rfl) hH
            · have hF := hF.2 cd
              exact wc_X5_asks_71 X hN hT h bc bs hF _ _ _ _ _ hB eh (lv_sub hl [0] rfl) hH
    · have hF := hF.2 cd
      refine lv_aload_n hx hb dX5_asks_10 rfl (lv_at hl 0 rfl) ?_
      refine zq_aload_n hx hb dX5_asks_11 rfl (lv_at hl 1 rfl) ?_
      refine lv_iload_n hx hb dX5_asks_12 rfl (lv_at hl 2 rfl) ?_
      refine lv_iload hx hb dX5_asks_13 (lv_at hl 5 rfl) ?_
      refine lv_iadd hx hb dX5_asks_15 ?_
      obtain ⟨hc, hF⟩ := hF
      obtain ⟨c3, s4, hc1, hs1, hF⟩ := hF
      refine zc_call (c1 := c3) (s1 := s4) (rest := []) hH hB hc1 hs1 (fun hf => zc_rVW X hH hc (by decide) rfl (As := [va_rf q1, .int (v2 + v5)]) (wc_X5_at X.2.2.2.2.2.2.2.1 hF) (lw_VW q536 q537 q538 q91 q539) ⟨rfl, by decide, by decide, rfl⟩ ⟨Nat.le_of_ble_eq_true rfl, Nat.le_of_ble_eq_true rfl, Nat.le_of_ble_eq_true rfl⟩ rfl hl.1 (st0 := [.int (v2 + v5), va_rf q1, .ref o]) rfl (Nat.le_of_ble_eq_true rfl) dX5_asks_16 hf) (fun E9 ce9 q6 h7 H locs hx9 hH hB hce hcv hcl => ?_) (fun v9 h9 H locs hv9 hH hB => ?_)
      · exact zc_out X hH hB (by rw [hT]; intro x hx9; cases hx9) hce hcv hcl hx9
      obtain ⟨r5, rfl, hF, rfl⟩ := hv9
      refine zq_ifnonnull (tgt := 26) hx hb dX5_asks_19 (by decide) (fun b8 eb8 => ?_) (fun cd => ?_)
      · have hF := hF.2 b8 eb8
        refine lv_iconst (v := 0) hx hb dX5_asks_26 (by decide) ?_
        exact wc_X5_asks_27 X hN hT ih h (bc - c3) (bs - s4) q1 v2 v3 v4 v5 0 hF _ _ _ _ _ hB eh (lv_sub hl [0, 1, 2, 3, 4, 5] rfl) hH
      · have hF := hF.1 cd
        refine lv_iconst (v := 1) hx hb dX5_asks_22 (by decide) ?_
        refine lv_goto (tgt := 27) hx hb dX5_asks_23 (by decide) ?_
        exact wc_X5_asks_27 X hN hT ih h (bc - c3) (bs - s4) q1 v2 v3 v4 v5 1 hF _ _ _ _ _ hB eh (lv_sub hl [0, 1, 2, 3, 4, 5] rfl) hH
set_option maxHeartbeats 4000000 in
set_option maxRecDepth 100000 in
theorem wc_X5_asks {l : Launch} {D : va_G} {cA : Nat → ClassId} {P : Nat → Prop} {G : Nat × Nat × Nat} {o : Nat} {Q : Prop} {XE : String → Nat → ZH → Prop} {h : ZH} {C S : Nat} {q1 : Option Nat} {v2 : Int32} {v3 : Int32} {v4 : Int32} (hl9 : l.stackTraces = false) (hF : fc_X5_asks G o Q XE h C S q1 v2 v3 v4) :
    zc_M l yX5_asks (ws_ yX5_asks cX5_asks 6 none) 4 D cA P G [.ref o, va_rf q1, .int v2, .int v3, .int v4] h C S (fun v h' => v = none ∧ Q ∧ h = h') XE := by
  refine zc_ofF hl9 rfl (by decide +kernel) (zc_slle (by simp [zc_k1, zc_kI, zc_kR]) (Nat.le_of_ble_eq_true rfl)) ?_
  intro p e s m args below meth c H locs ls X hN hT hH hl
  have hx := X.1
  have hb := X.2.1
  have hown := X.2.2.2.1
  have hts := X.2.2.2.2.1
  have hl : lv_has ls 6 [(0, .ref o), (1, va_rf q1), (2, .int v2), (3, .int v3), (4, .int v4)] := by
    have h9 := hl
    rw [zc_ags _ (by simp [zc_k1, zc_kI, zc_kR]) 0] at h9
    exact h9
  have hB : 0 + C ≤ C ∧ 0 + S ≤ S := ⟨by omega, by omega⟩
  have eh : h = h := rfl
  unfold fc_X5_asks at hF
  refine lv_iconst (v := 0) hx hb dX5_asks_0 (by decide) ?_
  refine lv_istore (lv' := [(5, .int 0), (0, .ref o), (1, va_rf q1), (2, .int v2), (3, .int v3), (4, .int v4)]) hx hb dX5_asks_1 hl (by decide) rfl (fun ls hl => ?_)
  obtain ⟨n9, hF⟩ := hF
  exact wc_X5_asks_3 X hN hT n9 h C S q1 v2 v3 v4 0 hF _ _ _ _ _ hB eh (lv_sub hl [1, 2, 3, 4, 5, 0] rfl) hH
set_option maxHeartbeats 4000000 in
set_option maxRecDepth 100000 in
theorem wc_X5_newGrave_41 {p : Program} {l : Launch} {e : Env} {s : State} {m : MethodId} {args : Array Value} {below : List Frame} {meth : Method} {c : Code} {D : va_G} {cA : Nat → ClassId} {P : Nat → Prop} {G : Nat × Nat × Nat} {C S : Nat} {o : Nat} {Q : Int32 → ZH → Prop} {XE : String → Nat → ZH → Prop} (X : zc_Cx p l s m args meth c cX5_newGrave 8 (some .int) "ChurchyardBook$Book" D cA P G) (hN : meth.name = "newGrave") (hT : c.exceptionTable.toList = tableOf []) :
    ∀ (h : ZH) (bc bs : Nat) (v1 : Int32) (v2 : Int32) (v3 : Int32) (v4 : Int32) (v5 : Int32) (t0 : Int32), fc_X5_newGrave_41 G o Q XE h bc bs v1 v2 v3 v4 v5 t0 → ∀ (H : Heap) (locs : List Loc) (ls : Array Slot) (cells slots : Nat), cells + bc ≤ C ∧ slots + bs ≤ S → lv_has ls 8 [(0, .ref o), (1, .int v1), (2, .int v2), (3, .int v3), (4, .int v4), (5, .int v5)] → zc_H D cA P h s H locs → W p l e (zc_Ro 9 C S) s m args below meth c H locs cells slots (vx_MQ below (zc_Q D cA P (fun v h' => ∃ z : Int32, v = some (.int z) ∧ Q z h')) (zc_X D cA P XE) args s C S P) (F0 m 41 ls [.int t0]) := by
  have hx := X.1
  have hb := X.2.1
  have hown := X.2.2.2.1
  have hts := X.2.2.2.2.1
  intro h bc bs v1 v2 v3 v4 v5 t0 hF
  intro H locs ls cells slots hB hl hH
  unfold fc_X5_newGrave_41 at hF
  refine lv_iconst (v := (-1)) hx hb dX5_newGrave_41 (by decide) ?_
  obtain ⟨c1, s2, hc1, hs1, hF⟩ := hF
  refine zc_call (c1 := c1) (s1 := s2) (rest := []) hH hB hc1 hs1 (fun hf => zc_rSN X hH (As := [.int t0, .int (-1)]) (host := "ChurchyardBook") (wc_X1_need X.2.2.2.2.2.2.2.1 hF) (lw_meth q265) (by decide +kernel) q87 q264 ⟨by decide, by decide, rfl⟩ ⟨Nat.le_of_ble_eq_true rfl, Nat.le_of_ble_eq_true rfl, Nat.le_of_ble_eq_true rfl⟩ rfl hl.1 (st0 := [.int (-1), .int t0]) rfl (Nat.le_of_ble_eq_true rfl) dX5_newGrave_42 hf) (fun E9 ce9 q3 h4 H locs hx9 hH hB hce hcv hcl => ?_) (fun v9 h9 H locs hv9 hH hB => ?_)
  · exact zc_out X hH hB (by rw [hT]; intro x hx9; cases hx9) hce hcv hcl hx9
  obtain ⟨rfl, hF, rfl⟩ := hv9
  refine lv_aload_n hx hb dX5_newGrave_45 rfl (lv_at hl 0 rfl) ?_
  refine lv_iload_n hx hb dX5_newGrave_46 rfl (lv_at hl 1 rfl) ?_
  refine lv_iload_n hx hb dX5_newGrave_47 rfl (lv_at hl 2 rfl) ?_
  obtain ⟨hc, hF⟩ := hF
  obtain ⟨c5, s6, hc1, hs1, hF⟩ := hF
  refine zc_call (c1 := c5) (s1 := s6) (rest := []) hH hB hc1 hs1 (fun hf => zc_rVW X hH hc (by decide) rfl (As := [.int v1, .int v2]) (wc_X5_row X.2.2.2.2.2.2.2.1 hF) (lw_VW q505 q506 q507 q91 q508) ⟨rfl, by decide, by decide, rfl⟩ ⟨Nat.le_of_ble_eq_true rfl, Nat.le_of_ble_eq_true rfl, Nat.le_of_ble_eq_true rfl⟩ rfl hl.1 (st0 := [.int v2, .int v1, .ref o]) rfl (Nat.le_of_ble_eq_true rfl) dX5_newGrave_48 hf) (fun E9 ce9 q8 h9 H locs hx9 hH hB hce hcv hcl => ?_) (fun v9 h9 H locs hv9 hH hB => ?_)
  · exact zc_out X hH hB (by rw [hT]; intro x hx9; cases hx9) hce hcv hcl hx9
  obtain ⟨r7, rfl, hF, rfl⟩ := hv9
  refine zq_astore (r := r7) (lv' := [(6, va_rf r7), (0, .ref o), (1, .int v1), (2, .int v2), (3, .int v3), (4, .int v4), (5, .int v5)]) hx hb rfl dX5_newGrave_51 hl (by decide) rfl (fun ls hl => ?_)
  refine lv_aload_n hx hb dX5_newGrave_53 rfl (lv_at hl 1 rfl) ?_
  refine zq_aload hx hb dX5_newGrave_54 (lv_at hl 0 rfl) ?_
  refine lv_iload_n hx hb dX5_newGrave_56 rfl (lv_at hl 4 rfl) ?_
  refine lv_iload hx hb dX5_newGrave_57 (lv_at hl 5 rfl) ?_
  refine lv_iload hx hb dX5_newGrave_59 (lv_at hl 6 rfl) ?_
  obtain ⟨hc, hF⟩ := hF
  obtain ⟨c10, s11, hc1, hs1, hF⟩ := hF
  refine zc_call (c1 := c10) (s1 := s11) (rest := []) hH hB hc1 hs1 (fun hf => zc_rV X hH hc (by decide) rfl (As := [va_rf r7, .int v3, .int v4, .int v5]) (wc_X5_asks X.2.2.2.2.2.2.2.1 hF) (lw_V q631 q633 qs8 q91 q634) ⟨rfl, by decide, by decide, rfl⟩ ⟨Nat.le_of_ble_eq_true rfl, Nat.le_of_ble_eq_true rfl, Nat.le_of_ble_eq_true rfl⟩ rfl hl.1 (st0 := [.int v5, .int v4, .int v3, va_rf r7, .ref o]) rfl (Nat.le_of_ble_eq_true rfl) dX5_newGrave_61 hf) (fun E9 ce9 q12 h13 H locs hx9 hH hB hce hcv hcl => ?_) (fun v9 h9 H locs hv9 hH hB => ?_)
  · exact zc_out X hH hB (by rw [hT]; intro x hx9; cases hx9) hce hcv hcl hx9
  obtain ⟨rfl, hF, rfl⟩ := hv9
  refine lv_aload_n hx hb dX5_newGrave_64 rfl (lv_at hl 1 rfl) ?_
  obtain ⟨hc, hF⟩ := hF
  refine zc_getf X hH hc 1 201 ("ChurchyardBook$Book", "graves", "Ljava/util/ArrayList;", true) (by decide +kernel) (v := va_rf (zr h 201 o)) rfl q190 (Or.inl rfl) dX5_newGrave_65 ?_
  obtain ⟨b14, eb14, hF⟩ := hF
  refine zq_st (st2 := [.ref b14]) (by rw [eb14]; first | done | rfl) ?_
  obtain ⟨hc, hF⟩ := hF
  refine zc_call (c1 := 0) (s1 := 0) (rest := []) hH hB (Nat.zero_le _) (Nat.zero_le _) (fun hf => zc_rV X hH hc (by decide) rfl (As := []) (wc_J2_size X.2.2.2.2.2.2.2.1 hF) (lw_V q349 q350 q351 q94 q352) ⟨rfl, by decide, by decide, rfl⟩ ⟨Nat.le_of_ble_eq_true rfl, Nat.le_of_ble_eq_true rfl, Nat.le_of_ble_eq_true rfl⟩ rfl hl.1 (st0 := [.ref b14]) rfl (Nat.le_of_ble_eq_true rfl) dX5_newGrave_68 hf) (fun E9 ce9 q9 h9 H locs hx9 => False.elim hx9) (fun v9 h9 H locs hv9 hH hB => ?_)
  obtain ⟨z15, rfl, hF, rfl⟩ := hv9
  refine lv_iload_n hx hb dX5_newGrave_71 rfl (lv_at hl 2 rfl) ?_
  refine lv_iload_n hx hb dX5_newGrave_72 rfl (lv_at hl 3 rfl) ?_
  refine lv_iload_n hx hb dX5_newGrave_73 rfl (lv_at hl 4 rfl) ?_
  refine lv_iload hx hb dX5_newGrave_74 (lv_at hl 5 rfl) ?_
  refine lv_iload hx hb dX5_newGrave_76 (lv_at hl 6 rfl) ?_
  refine lv_aload_n hx hb dX5_newGrave_78 rfl (lv_at hl 1 rfl) ?_
  obtain ⟨hc, hF⟩ := hF
  refine zc_getf X hH hc 0 200 ("ChurchyardBook$Book", "fields", "Ljava/util/ArrayList;", true) (by decide +kernel) (v := va_rf (zr h 200 o)) rfl q188 (Or.inl rfl) dX5_newGrave_79 ?_
  refine lv_iload_n hx hb dX5_newGrave_82 rfl (lv_at hl 2 rfl) ?_
  obtain ⟨b16, eb16, hF⟩ := hF
  refine zq_st (st2 := [.int v1, .ref b16, .int v5, .int v4, .int v3, .int v2, .int v1, .int z15]) (by rw [eb16]; first | done | rfl) ?_
  obtain ⟨hc, hF⟩ := hF
  refine zc_call (c1 := 0) (s1 := 0) (rest := [.int v5, .int v4, .int v3, .int v2, .int v1, .int z15]) hH hB (Nat.zero_le _) (Nat.zero_le _) (fun hf => zc_rV X hH hc (by decide) rfl (As := [.int v1]) (wc_J2_get X.2.2.2.2.2.2.2.1 hF) (lw_V q475 q476 q477 q94 q478) ⟨rfl, by decide, by decide, rfl⟩ ⟨Nat.le_of_ble_eq_true rfl, Nat.le_of_ble_eq_true rfl, Nat.le_of_ble_eq_true rfl⟩ rfl hl.1 (st0 := [.int v1, .ref b16, .int v5, .int v4, .int v3, .int v2, .int v1, .int z15]) rfl (Nat.le_of_ble_eq_true rfl) dX5_newGrave_83 hf) (fun E9 ce9 q9 h9 H locs hx9 => False.elim hx9) (fun v9 h9 H locs hv9 hH hB => ?_)
  obtain ⟨r17, rfl, hF, rfl⟩ := hv9
  obtain ⟨hR, hF⟩ := hF
  refine zc_castY X hH (r := r17) [7] "ChurchyardBook$Field" hR (by decide) (by decide +kernel) q353 dX5_newGrave_86 ?_
  obtain ⟨b18, eb18, hF⟩ := hF
  refine zq_st (st2 := [.ref b18, .int v5, .int v4, .int v3, .int v2, .int v1, .int z15]) (by rw [eb18]; first | done | rfl) ?_
  obtain ⟨hc, hF⟩ := hF
  refine zc_getf X hH hc 0 500 ("ChurchyardBook$Field", "ground", "I", true) (by decide +kernel) (v := .int (zi h 500 b18)) rfl q363 (Or.inl rfl) dX5_newGrave_89 ?_
  obtain ⟨c19, s20, hc1, hs1, hF⟩ := hF
  refine zc_call (c1 := c19) (s1 := s20) (rest := []) hH hB hc1 hs1 (fun hf => zc_rSN X hH (As := [.int z15, .int v1, .int v2, .int v3, .int v4, .int v5, .int (zi h 500 b18)]) (host := "ChurchyardBook") (wc_X1_newGrave X.2.2.2.2.2.2.2.1 hF) (lw_meth q642) (by decide +kernel) q87 q641 ⟨by decide, by decide, rfl⟩ ⟨Nat.le_of_ble_eq_true rfl, Nat.le_of_ble_eq_true rfl, Nat.le_of_ble_eq_true rfl⟩ rfl hl.1 (st0 := [.int (zi h 500 b18), .int v5, .int v4, .int v3, .int v2, .int v1, .int z15]) rfl (Nat.le_of_ble_eq_true rfl) dX5_newGrave_92 hf) (fun E9 ce9 q9 h9 H locs hx9 => False.elim hx9) (fun v9 h22 H locs hv9 hH hB => ?_)
  obtain ⟨r21, rfl, hF⟩ := hv9
  refine zq_astore (r := r21) (lv' := [(7, va_rf r21), (6, va_rf r7), (0, .ref o), (1, .int v1), (2, .int v2), (3, .int v3), (4, .int v4), (5, .int v5)]) hx hb rfl dX5_newGrave_95 hl (by decide) (by cases r7 <;> rfl) (fun ls hl => ?_)
  refine lv_aload_n hx hb dX5_newGrave_97 rfl (lv_at hl 2 rfl) ?_
  refine zq_aload hx hb dX5_newGrave_98 (lv_at hl 1 rfl) ?_
  refine lv_iload_n hx hb dX5_newGrave_100 rfl (lv_at hl 5 rfl) ?_
  refine lv_iload hx hb dX5_newGrave_101 (lv_at hl 7 rfl) ?_
  refine zq_aload hx hb dX5_newGrave_103 (lv_at hl 0 rfl) ?_
  obtain ⟨hc, hF⟩ := hF
  obtain ⟨c23, s24, hc1, hs1, hF⟩ := hF
  refine zc_call (c1 := c23) (s1 := s24) (rest := []) hH hB hc1 hs1 (fun hf => zc_rVW X hH hc (by decide) rfl (As := [va_rf r7, .int v3, .int v5, va_rf r21]) (wc_X5_store X.2.2.2.2.2.2.2.1 hF) (lw_VW q606 q608 qs7 q91 q609) ⟨rfl, by decide, by decide, rfl⟩ ⟨Nat.le_of_ble_eq_true rfl, Nat.le_of_ble_eq_true rfl, Nat.le_of_ble_eq_true rfl⟩ rfl hl.1 (st0 := [va_rf r21, .int v5, .int v3, va_rf r7, .ref o]) rfl (Nat.le_of_ble_eq_true rfl) dX5_newGrave_105 hf) (fun E9 ce9 q26 h27 H locs hx9 hH hB hce hcv hcl => ?_) (fun v9 h25 H locs hv9 hH hB => ?_)
  · exact zc_out X hH hB (by rw [hT]; intro x hx9; cases hx9) hce hcv hcl hx9
  obtain ⟨rfl, hF⟩ := hv9
  refine lv_aload_n hx hb dX5_newGrave_108 rfl (lv_at hl 2 rfl) ?_
  obtain ⟨hc, hF⟩ := hF
  refine zc_getf X hH hc 1 201 ("ChurchyardBook$Book", "graves", "Ljava/util/ArrayList;", true) (by decide +kernel) (v := va_rf (zr h25 201 o)) rfl q190 (Or.inl rfl) dX5_newGrave_109 ?_
  refine zq_aload hx hb dX5_newGrave_112 (lv_at hl 0 rfl) ?_
  obtain ⟨b28, eb28, hF⟩ := hF
  refine zq_st (st2 := [va_rf r21, .ref b28]) (by rw [eb28]; first | done | rfl) ?_
  obtain ⟨hc, hF⟩ := hF
  obtain ⟨c29, s30, hc1, hs1, hF⟩ := hF
  refine zc_call (c1 := c29) (s1 := s30) (rest := []) hH hB hc1 hs1 (fun hf => zc_rV X hH hc (by decide) rfl (As := [va_rf r21]) (wc_J2_add X.2.2.2.2.2.2.2.1 hF) (lw_V q376 q377 q378 q94 q379) ⟨rfl, by decide, by decide, rfl⟩ ⟨Nat.le_of_ble_eq_true rfl, Nat.le_of_ble_eq_true rfl, Nat.le_of_ble_eq_true rfl⟩ rfl hl.1 (st0 := [va_rf r21, .ref b28]) rfl (Nat.le_of_ble_eq_true rfl) dX5_newGrave_114 hf) (fun E9 ce9 q9 h9 H locs hx9 => False.elim hx9) (fun v9 h32 H locs hv9 hH hB => ?_)
  obtain ⟨z31, rfl, hF⟩ := hv9
  refine lv_pop hx hb dX5_newGrave_117 rfl ?_
  refine zq_aload hx hb dX5_newGrave_118 (lv_at hl 0 rfl) ?_
  obtain ⟨b33, eb33, hF⟩ := hF
  refine zq_st (st2 := [.ref b33]) (by rw [eb33]; first | done | rfl) ?_
  obtain ⟨hc, hF⟩ := hF
  refine zc_getf X hH hc 0 600 ("ChurchyardBook$Grave", "number", "I", true) (by decide +kernel) (v := .int (zi h32 600 b33)) rfl q655 (Or.inl rfl) dX5_newGrave_120 ?_
  exact zc_iret X hH hB rfl rfl ⟨_, rfl, hF⟩ dX5_newGrave_123
set_option maxHeartbeats 4000000 in
set_option maxRecDepth 100000 in
theorem wc_X5_newGrave_40 {p : Program} {l : Launch} {e : Env} {s : State} {m : MethodId} {args : Array Value} {below : List Frame} {meth : Method} {c : Code} {D : va_G} {cA : Nat → ClassId} {P : Nat → Prop} {G : Nat × Nat × Nat} {C S : Nat} {o : Nat} {Q : Int32 → ZH → Prop} {XE : String → Nat → ZH → Prop} (X : zc_Cx p l s m args meth c cX5_newGrave 8 (some .int) "ChurchyardBook$Book" D cA P G) (hN : meth.name = "newGrave") (hT : c.exceptionTable.toList = tableOf []) :
    ∀ (h : ZH) (bc bs : Nat) (v1 : Int32) (v2 : Int32) (v3 : Int32) (v4 : Int32) (v5 : Int32), fc_X5_newGrave_40 G o Q XE h bc bs v1 v2 v3 v4 v5 → ∀ (H : Heap) (locs : List Loc) (ls : Array Slot) (cells slots : Nat), cells + bc ≤ C ∧ slots + bs ≤ S → lv_has ls 8 [(0, .ref o), (1, .int v1), (2, .int v2), (3, .int v3), (4, .int v4), (5, .int v5)] → zc_H D cA P h s H locs → W p l e (zc_Ro 9 C S) s m args below meth c H locs cells slots (vx_MQ below (zc_Q D cA P (fun v h' => ∃ z : Int32, v = some (.int z) ∧ Q z h')) (zc_X D cA P XE) args s C S P) (F0 m 40 ls []) := by
  have hx := X.1
  have hb := X.2.1
  have hown := X.2.2.2.1
  have hts := X.2.2.2.2.1
  intro h bc bs v1 v2 v3 v4 v5 hF
  intro H locs ls cells slots hB hl hH
  unfold fc_X5_newGrave_40 at hF
  refine lv_iconst (v := 0) hx hb dX5_newGrave_40 (by decide) ?_
  exact wc_X5_newGrave_41 X hN hT h bc bs v1 v2 v3 v4 v5 0 hF _ _ _ _ _ hB (lv_sub hl [0, 1, 2, 3, 4, 5] rfl) hH
set_option maxHeartbeats 4000000 in
set_option maxRecDepth 100000 in
theorem wc_X5_newGrave {l : Launch} {D : va_G} {cA : Nat → ClassId} {P : Nat → Prop} {G : Nat × Nat × Nat} {o : Nat} {Q : Int32 → ZH → Prop} {XE : String → Nat → ZH → Prop} {h : ZH} {C S : Nat} {v1 : Int32} {v2 : Int32} {v3 : Int32} {v4 : Int32} {v5 : Int32} (hl9 : l.stackTraces = false) (hF : fc_X5_newGrave G o Q XE h C S v1 v2 v3 v4 v5) :
    zc_M l yX5_newGrave (ws_ yX5_newGrave cX5_newGrave 8 (some .int)) 9 D cA P G [.ref o, .int v1, .int v2, .int v3, .int v4, .int v5] h C S (fun v h' => ∃ z : Int32, v = some (.int z) ∧ Q z h') XE := by
  refine zc_ofF hl9 rfl (by decide +kernel) (Nat.le_of_ble_eq_true rfl) ?_
  intro p e s m args below meth c H locs ls X hN hT hH hl
  have hx := X.1
  have hb := X.2.1
  have hown := X.2.2.2.1
  have hts := X.2.2.2.2.1
  have hl : lv_has ls 8 [(0, .ref o), (1, .int v1), (2, .int v2), (3, .int v3), (4, .int v4), (5, .int v5)] := hl
  have hB : 0 + C ≤ C ∧ 0 + S ≤ S := ⟨by omega, by omega⟩
  unfold fc_X5_newGrave at hF
  refine lv_iload hx hb dX5_newGrave_0 (lv_at hl 4 rfl) ?_
  refine lv_iconst (v := 1) hx hb dX5_newGrave_2 (by decide) ?_
  refine lv_icmp_lt (tgt := 40) hx hb dX5_newGrave_3 (by decide) (fun cd => ?_) (fun cd => ?_)
  · have hF := hF.1 cd
    exact wc_X5_newGrave_40 X hN hT h C S v1 v2 v3 v4 v5 hF _ _ _ _ _ hB (lv_sub hl [0, 1, 2, 3, 4, 5] rfl) hH
  · have hF := hF.2 cd
    refine lv_iload hx hb dX5_newGrave_6 (lv_at hl 4 rfl) ?_
    refine lv_bipush (v := 6) hx hb dX5_newGrave_8 (by decide) ?_
    refine lv_icmp_gt (tgt := 40) hx hb dX5_newGrave_10 (by decide) (fun cd => ?_) (fun cd => ?_)
    · have hF := hF.1 cd
      exact wc_X5_newGrave_40 X hN hT h C S v1 v2 v3 v4 v5 hF _ _ _ _ _ hB (lv_sub hl [0, 1, 2, 3, 4, 5] rfl) hH
    · have hF := hF.2 cd
      refine lv_iload hx hb dX5_newGrave_13 (lv_at hl 4 rfl) ?_
      refine lv_iload hx hb dX5_newGrave_15 (lv_at hl 5 rfl) ?_
      refine zc_call (c1 := 0) (s1 := 0) (rest := []) hH hB (Nat.zero_le _) (Nat.zero_le _) (fun hf => zc_rSN X hH (As := [.int v4, .int v5]) (host := "ChurchyardBook") (wc_X1_isWide X.2.2.2.2.2.2.2.1 hF) (lw_meth q630) (by decide +kernel) q87 q629 ⟨by decide, by decide, rfl⟩ ⟨Nat.le_of_ble_eq_true rfl, Nat.le_of_ble_eq_true rfl, Nat.le_of_ble_eq_true rfl⟩ rfl hl.1 (st0 := [.int v5, .int v4]) rfl (Nat.le_of_ble_eq_true rfl) dX5_newGrave_17 hf) (fun E9 ce9 q9 h9 H locs hx9 => False.elim hx9) (fun v9 h9 H locs hv9 hH hB => ?_)
      obtain ⟨z1, rfl, hF, rfl⟩ := hv9
      refine lv_if_eq (tgt := 40) hx hb dX5_newGrave_20 (by decide) (fun cd => ?_) (fun cd => ?_)
      · have hF := hF.1 cd
        exact wc_X5_newGrave_40 X hN hT h C S v1 v2 v3 v4 v5 hF _ _ _ _ _ hB (lv_sub hl [0, 1, 2, 3, 4, 5] rfl) hH
      · have hF := hF.2 cd
        refine lv_aload_n hx hb dX5_newGrave_23 rfl (lv_at hl 0 rfl) ?_
        obtain ⟨hc, hF⟩ := hF
        refine zc_getf X hH hc 1 201 ("ChurchyardBook$Book", "graves", "Ljava/util/ArrayList;", true) (by decide +kernel) (v := va_rf (zr h 201 o)) rfl q190 (Or.inl rfl) dX5_newGrave_24 ?_
        obtain ⟨b2, eb2, hF⟩ := hF
        refine zq_st (st2 := [.ref b2]) (by rw [eb2]; first | done | rfl) ?_
        obtain ⟨hc, hF⟩ := hF
        refine zc_call (c1 := 0) (s1 := 0) (rest := []) hH hB (Nat.zero_le _) (Nat.zero_le _) (fun hf => zc_rV X hH hc (by decide) rfl (As := []) (wc_J2_size X.2.2.2.2.2.2.2.1 hF) (lw_V q349 q350 q351 q94 q352) ⟨rfl, by decide, by decide, rfl⟩ ⟨Nat.le_of_ble_eq_true rfl, Nat.le_of_ble_eq_true rfl, Nat.le_of_ble_eq_true rfl⟩ rfl hl.1 (st0 := [.ref b2]) rfl (Nat.le_of_ble_eq_true rfl) dX5_newGrave_27 hf) (fun E9 ce9 q9 h9 H locs hx9 => False.elim hx9) (fun v9 h9 H locs hv9 hH hB => ?_)
        obtain ⟨z3, rfl, hF, rfl⟩ := hv9
        refine lv_sipush (v := 150) hx hb dX5_newGrave_30 (by decide) ?_
        refine lv_icmp_ge (tgt := 40) hx hb dX5_newGrave_33 (by decide) (fun cd => ?_) (fun cd => ?_)
        · have hF := hF.1 cd
          exact wc_X5_newGrave_40 X hN hT h C S v1 v2 v3 v4 v5 hF _ _ _ _ _ hB (lv_sub hl [0, 1, 2, 3, 4, 5] rfl) hH
        · have hF := hF.2 cd
          refine lv_iconst (v := 1) hx hb dX5_newGrave_36 (by decide) ?_
          refine lv_goto (tgt := 41) hx hb dX5_newGrave_37 (by decide) ?_
          exact wc_X5_newGrave_41 X hN hT h C S v1 v2 v3 v4 v5 1 hF _ _ _ _ _ hB (lv_sub hl [0, 1, 2, 3, 4, 5] rfl) hH
set_option maxHeartbeats 4000000 in
set_option maxRecDepth 100000 in
theorem wc_X16_init {l : Launch} {D : va_G} {cA : Nat → ClassId} {P : Nat → Prop} {G : Nat × Nat × Nat} {o : Nat} {Q : ZH → Prop} {h : ZH} {C S : Nat} {v1 : Int32} {v2 : Int32} (hl9 : l.stackTraces = false) (hF : fc_X16_init G o Q h C S v1 v2) :
    zc_M l yX16_init (ws_ yX16_init cX16_init 3 none) 4 D cA P G [.ref o, .int v1, .int v2] h C S (fun v h' => v = none ∧ Q h') zc_no := by
  refine zc_ofF hl9 rfl (by decide +kernel) (Nat.le_of_ble_eq_true rfl) ?_
  intro p e s m args below meth c H locs ls X hN hT hH hl
  have hx := X.1
  have hb := X.2.1
  have hown := X.2.2.2.1
  have hts := X.2.2.2.2.1
  have hl : lv_has ls 3 [(0, .ref o), (1, .int v1), (2, .int v2)] := hl
  have hB : 0 + C ≤ C ∧ 0 + S ≤ S := ⟨by omega, by omega⟩
  unfold fc_X16_init at hF
  refine lv_aload_n hx hb dX16_init_0 rfl (lv_at hl 0 rfl) ?_
  refine zc_objI X hl.1 q858 ⟨Nat.le_of_ble_eq_true rfl, Nat.le_of_ble_eq_true rfl⟩ (Nat.le_of_ble_eq_true rfl) dX16_init_1 ?_
  refine lv_aload_n hx hb dX16_init_4 rfl (lv_at hl 0 rfl) ?_
  refine lv_iconst (v := (-1)) hx hb dX16_init_5 (by decide) ?_
  obtain ⟨hc, hF⟩ := hF
  refine zc_puti X hH hc 8 708 ("ChurchyardBook$Person", "kind", "I", false) (by decide +kernel) rfl q883 (Or.inl rfl) (ty := .int) (by decide +kernel) rfl rfl (Or.inl rfl) dX16_init_6 (fun h1 H locs eh1 hH => ?_)
  have hF := hF h1 eh1
  refine lv_aload_n hx hb dX16_init_9 rfl (lv_at hl 0 rfl) ?_
  obtain ⟨hc1, hF⟩ := hF
  obtain ⟨hs1, hF⟩ := hF
  refine zc_new X hH hB (ci := 4) rfl (n := 3) q859 q156 q94 (by decide) hc1 hs1 dX16_init_10 (fun a2 h3 H hza2 eh3 hH hB => ?_)
  have hF := hF a2 h3 hza2 eh3
  refine lv_dup hx hb dX16_init_13 rfl ?_
  refine lv_iconst (v := 1) hx hb dX16_init_14 (by decide) ?_
  obtain ⟨c4, s5, hc1, hs1, hF⟩ := hF
  refine zc_call (c1 := c4) (s1 := s5) (rest := [.ref a2, .ref o]) hH hB hc1 hs1 (fun hf => zc_rI X hH (As := [.int 1]) (wc_J2_init X.2.2.2.2.2.2.2.1 hF) (lw_meth q159) q860 q94 q158 rfl ⟨by decide, by decide, rfl⟩ ⟨Nat.le_of_ble_eq_true rfl, Nat.le_of_ble_eq_true rfl, Nat.le_of_ble_eq_true rfl⟩ rfl hl.1 (st0 := [.int 1, .ref a2, .ref a2, .ref o]) rfl (Nat.le_of_ble_eq_true rfl) dX16_init_15 hf) (fun E9 ce9 q9 h9 H locs hx9 => False.elim hx9) (fun v9 h6 H locs hv9 hH hB => ?_)
  obtain ⟨rfl, hF⟩ := hv9
  obtain ⟨hc, hF⟩ := hF
  refine zc_putr X hH hc 13 713 ("ChurchyardBook$Person", "stays", "Ljava/util/ArrayList;", true) (by decide +kernel) rfl q902 (Or.inl rfl) (x := (some a2)) rfl (ty := (.object "java/util/ArrayList")) (by decide +kernel) rfl (Or.inr ⟨rfl, hN, rfl⟩) dX16_init_18 (fun h7 H locs eh7 hH => ?_)
  have hF := hF h7 eh7
  refine lv_aload_n hx hb dX16_init_21 rfl (lv_at hl 0 rfl) ?_
  refine lv_iload_n hx hb dX16_init_22 rfl (lv_at hl 1 rfl) ?_
  obtain ⟨hc, hF⟩ := hF
  refine zc_puti X hH hc 0 700 ("ChurchyardBook$Person", "number", "I", true) (by decide +kernel) rfl q861 (Or.inl rfl) (ty := .int) (by decide +kernel) rfl rfl (Or.inr ⟨rfl, hN, rfl⟩) dX16_init_23 (fun h8 H locs eh8 hH => ?_)
  have hF := hF h8 eh8
  refine lv_aload_n hx hb dX16_init_26 rfl (lv_at hl 0 rfl) ?_
  refine lv_iload_n hx hb dX16_init_27 rfl (lv_at hl 2 rfl) ?_
  obtain ⟨hc, hF⟩ := hF
  refine zc_puti X hH hc 1 701 ("ChurchyardBook$Person", "born", "I", true) (by decide +kernel) rfl q865 (Or.inl rfl) (ty := .int) (by decide +kernel) rfl rfl (Or.inr ⟨rfl, hN, rfl⟩) dX16_init_28 (fun h9 H locs eh9 hH => ?_)
  have hF := hF h9 eh9
  exact zc_vret X hH hB rfl ⟨rfl, hF⟩ dX16_init_31
set_option maxHeartbeats 4000000 in
set_option maxRecDepth 100000 in
theorem wc_X5_newPerson_32 {p : Program} {l : Launch} {e : Env} {s : State} {m : MethodId} {args : Array Value} {below : List Frame} {meth : Method} {c : Code} {D : va_G} {cA : Nat → ClassId} {P : Nat → Prop} {G : Nat × Nat × Nat} {C S : Nat} {o : Nat} {Q : Int32 → ZH → Prop} {XE : String → Nat → ZH → Prop} (X : zc_Cx p l s m args meth c cX5_newPerson 2 (some .int) "ChurchyardBook$Book" D cA P G) (hN : meth.name = "newPerson") (hT : c.exceptionTable.toList = tableOf []) :
    ∀ (h : ZH) (bc bs : Nat) (v1 : Int32) (t0 : Int32), fc_X5_newPerson_32 G o Q XE h bc bs v1 t0 → ∀ (H : Heap) (locs : List Loc) (ls : Array Slot) (cells slots : Nat), cells + bc ≤ C ∧ slots + bs ≤ S → lv_has ls 2 [(0, .ref o), (1, .int v1)] → zc_H D cA P h s H locs → W p l e (zc_Ro 8 C S) s m args below meth c H locs cells slots (vx_MQ below (zc_Q D cA P (fun v h' => ∃ z : Int32, v = some (.int z) ∧ Q z h')) (zc_X D cA P XE) args s C S P) (F0 m 32 ls [.int t0]) := by
  have hx := X.1
  have hb := X.2.1
  have hown := X.2.2.2.1
  have hts := X.2.2.2.2.1
  intro h bc bs v1 t0 hF
  intro H locs ls cells slots hB hl hH
  unfold fc_X5_newPerson_32 at hF
  refine lv_iconst (v := (-1)) hx hb dX5_newPerson_32 (by decide) ?_
  obtain ⟨c1, s2, hc1, hs1, hF⟩ := hF
  refine zc_call (c1 := c1) (s1 := s2) (rest := []) hH hB hc1 hs1 (fun hf => zc_rSN X hH (As := [.int t0, .int (-1)]) (host := "ChurchyardBook") (wc_X1_need X.2.2.2.2.2.2.2.1 hF) (lw_meth q265) (by decide +kernel) q87 q264 ⟨by decide, by decide, rfl⟩ ⟨Nat.le_of_ble_eq_true rfl, Nat.le_of_ble_eq_true rfl, Nat.le_of_ble_eq_true rfl⟩ rfl hl.1 (st0 := [.int (-1), .int t0]) rfl (Nat.le_of_ble_eq_true rfl) dX5_newPerson_33 hf) (fun E9 ce9 q3 h4 H locs hx9 hH hB hce hcv hcl => ?_) (fun v9 h9 H locs hv9 hH hB => ?_)
  · exact zc_out X hH hB (by rw [hT]; intro x hx9; cases hx9) hce hcv hcl hx9
  obtain ⟨rfl, hF, rfl⟩ := hv9
  refine lv_aload_n hx hb dX5_newPerson_36 rfl (lv_at hl 0 rfl) ?_
  obtain ⟨hc, hF⟩ := hF
  refine zc_getf X hH hc 2 202 ("ChurchyardBook$Book", "persons", "Ljava/util/ArrayList;", true) (by decide +kernel) (v := va_rf (zr h 202 o)) rfl q192 (Or.inl rfl) dX5_newPerson_37 ?_
  obtain ⟨hc1, hF⟩ := hF
  obtain ⟨hs1, hF⟩ := hF
  refine zc_new X hH hB (ci := 13) rfl (n := 14) q853 q854 q121 (by decide) hc1 hs1 dX5_newPerson_40 (fun a5 h6 H hza5 eh6 hH hB => ?_)
  have hF := hF a5 h6 hza5 eh6
  refine lv_dup hx hb dX5_newPerson_43 rfl ?_
  refine lv_aload_n hx hb dX5_newPerson_44 rfl (lv_at hl 0 rfl) ?_
  obtain ⟨hc, hF⟩ := hF
  refine zc_getf X hH hc 2 202 ("ChurchyardBook$Book", "persons", "Ljava/util/ArrayList;", true) (by decide +kernel) (v := va_rf (zr h6 202 o)) rfl q192 (Or.inl rfl) dX5_newPerson_45 ?_
  obtain ⟨b7, eb7, hF⟩ := hF
  refine zq_st (st2 := [.ref b7, .ref a5, .ref a5, va_rf (zr h 202 o)]) (by rw [eb7]; first | done | rfl) ?_
  obtain ⟨hc, hF⟩ := hF
  refine zc_call (c1 := 0) (s1 := 0) (rest := [.ref a5, .ref a5, va_rf (zr h 202 o)]) hH hB (Nat.zero_le _) (Nat.zero_le _) (fun hf => zc_rV X hH hc (by decide) rfl (As := []) (wc_J2_size X.2.2.2.2.2.2.2.1 hF) (lw_V q349 q350 q351 q94 q352) ⟨rfl, by decide, by decide, rfl⟩ ⟨Nat.le_of_ble_eq_true rfl, Nat.le_of_ble_eq_true rfl, Nat.le_of_ble_eq_true rfl⟩ rfl hl.1 (st0 := [.ref b7, .ref a5, .ref a5, va_rf (zr h 202 o)]) rfl (by simp only [List.map_cons, List.map_nil, List.sum_cons, List.sum_nil, zc_k1]; exact Nat.le_of_ble_eq_true rfl) dX5_newPerson_48 hf) (fun E9 ce9 q9 h9 H locs hx9 => False.elim hx9) (fun v9 h9 H locs hv9 hH hB => ?_)
  obtain ⟨z8, rfl, hF, rfl⟩ := hv9
  refine lv_iload_n hx hb dX5_newPerson_51 rfl (lv_at hl 1 rfl) ?_
  obtain ⟨c9, s10, hc1, hs1, hF⟩ := hF
  refine zc_call (c1 := c9) (s1 := s10) (rest := [.ref a5, va_rf (zr h 202 o)]) hH hB hc1 hs1 (fun hf => zc_rI X hH (As := [.int z8, .int v1]) (wc_X16_init X.2.2.2.2.2.2.2.1 hF) (lw_meth q857) q855 q121 q856 rfl ⟨by decide, by decide, rfl⟩ ⟨Nat.le_of_ble_eq_true rfl, Nat.le_of_ble_eq_true rfl, Nat.le_of_ble_eq_true rfl⟩ rfl hl.1 (st0 := [.int v1, .int z8, .ref a5, .ref a5, va_rf (zr h 202 o)]) rfl (by simp only [List.map_cons, List.map_nil, List.sum_cons, List.sum_nil, zc_k1]; exact Nat.le_of_ble_eq_true rfl) dX5_newPerson_52 hf) (fun E9 ce9 q9 h9 H locs hx9 => False.elim hx9) (fun v9 h11 H locs hv9 hH hB => ?_)
  obtain ⟨rfl, hF⟩ := hv9
  obtain ⟨b12, eb12, hF⟩ := hF
  refine zq_st (st2 := [.ref a5, .ref b12]) (by rw [eb12]; first | done | rfl) ?_
  obtain ⟨hc, hF⟩ := hF
  obtain ⟨c13, s14, hc1, hs1, hF⟩ := hF
  refine zc_call (c1 := c13) (s1 := s14) (rest := []) hH hB hc1 hs1 (fun hf => zc_rV X hH hc (by decide) rfl (As := [.ref a5]) (wc_J2_add X.2.2.2.2.2.2.2.1 hF) (lw_V q376 q377 q378 q94 q379) ⟨rfl, by decide, by decide, rfl⟩ ⟨Nat.le_of_ble_eq_true rfl, Nat.le_of_ble_eq_true rfl, Nat.le_of_ble_eq_true rfl⟩ rfl hl.1 (st0 := [.ref a5, .ref b12]) rfl (Nat.le_of_ble_eq_true rfl) dX5_newPerson_55 hf) (fun E9 ce9 q9 h9 H locs hx9 => False.elim hx9) (fun v9 h16 H locs hv9 hH hB => ?_)
  obtain ⟨z15, rfl, hF⟩ := hv9
  refine lv_pop hx hb dX5_newPerson_58 rfl ?_
  refine lv_aload_n hx hb dX5_newPerson_59 rfl (lv_at hl 0 rfl) ?_
  obtain ⟨hc, hF⟩ := hF
  refine zc_getf X hH hc 2 202 ("ChurchyardBook$Book", "persons", "Ljava/util/ArrayList;", true) (by decide +kernel) (v := va_rf (zr h16 202 o)) rfl q192 (Or.inl rfl) dX5_newPerson_60 ?_
  obtain ⟨b17, eb17, hF⟩ := hF
  refine zq_st (st2 := [.ref b17]) (by rw [eb17]; first | done | rfl) ?_
  obtain ⟨hc, hF⟩ := hF
  refine zc_call (c1 := 0) (s1 := 0) (rest := []) hH hB (Nat.zero_le _) (Nat.zero_le _) (fun hf => zc_rV X hH hc (by decide) rfl (As := []) (wc_J2_size X.2.2.2.2.2.2.2.1 hF) (lw_V q349 q350 q351 q94 q352) ⟨rfl, by decide, by decide, rfl⟩ ⟨Nat.le_of_ble_eq_true rfl, Nat.le_of_ble_eq_true rfl, Nat.le_of_ble_eq_true rfl⟩ rfl hl.1 (st0 := [.ref b17]) rfl (Nat.le_of_ble_eq_true rfl) dX5_newPerson_63 hf) (fun E9 ce9 q9 h9 H locs hx9 => False.elim hx9) (fun v9 h9 H locs hv9 hH hB => ?_)
  obtain ⟨z18, rfl, hF, rfl⟩ := hv9
  refine lv_iconst (v := 1) hx hb dX5_newPerson_66 (by decide) ?_
  refine lv_isub hx hb dX5_newPerson_67 ?_
  exact zc_iret X hH hB rfl rfl ⟨_, rfl, hF⟩ dX5_newPerson_68
set_option maxHeartbeats 4000000 in
set_option maxRecDepth 100000 in
theorem wc_X5_newPerson_31 {p : Program} {l : Launch} {e : Env} {s : State} {m : MethodId} {args : Array Value} {below : List Frame} {meth : Method} {c : Code} {D : va_G} {cA : Nat → ClassId} {P : Nat → Prop} {G : Nat × Nat × Nat} {C S : Nat} {o : Nat} {Q : Int32 → ZH → Prop} {XE : String → Nat → ZH → Prop} (X : zc_Cx p l s m args meth c cX5_newPerson 2 (some .int) "ChurchyardBook$Book" D cA P G) (hN : meth.name = "newPerson") (hT : c.exceptionTable.toList = tableOf []) :
    ∀ (h : ZH) (bc bs : Nat) (v1 : Int32), fc_X5_newPerson_31 G o Q XE h bc bs v1 → ∀ (H : Heap) (locs : List Loc) (ls : Array Slot) (cells slots : Nat), cells + bc ≤ C ∧ slots + bs ≤ S → lv_has ls 2 [(0, .ref o), (1, .int v1)] → zc_H D cA P h s H locs → W p l e (zc_Ro 8 C S) s m args below meth c H locs cells slots (vx_MQ below (zc_Q D cA P (fun v h' => ∃ z : Int32, v = some (.int z) ∧ Q z h')) (zc_X D cA P XE) args s C S P) (F0 m 31 ls []) := by
  have hx := X.1
  have hb := X.2.1
  have hown := X.2.2.2.1
  have hts := X.2.2.2.2.1
  intro h bc bs v1 hF
  intro H locs ls cells slots hB hl hH
  unfold fc_X5_newPerson_31 at hF
  refine lv_iconst (v := 0) hx hb dX5_newPerson_31 (by decide) ?_
  exact wc_X5_newPerson_32 X hN hT h bc bs v1 0 hF _ _ _ _ _ hB (lv_sub hl [0, 1] rfl) hH
set_option maxHeartbeats 4000000 in
set_option maxRecDepth 100000 in
theorem wc_X5_newPerson {l : Launch} {D : va_G} {cA : Nat → ClassId} {P : Nat → Prop} {G : Nat × Nat × Nat} {o : Nat} {Q : Int32 → ZH → Prop} {XE : String → Nat → ZH → Prop} {h : ZH} {C S : Nat} {v1 : Int32} (hl9 : l.stackTraces = false) (hF : fc_X5_newPerson G o Q XE h C S v1) :
    zc_M l yX5_newPerson (ws_ yX5_newPerson cX5_newPerson 2 (some .int)) 8 D cA P G [.ref o, .int v1] h C S (fun v h' => ∃ z : Int32, v = some (.int z) ∧ Q z h') XE := by
  refine zc_ofF hl9 rfl (by decide +kernel) (Nat.le_of_ble_eq_true rfl) ?_
  intro p e s m args below meth c H locs ls X hN hT hH hl
  have hx := X.1
  have hb := X.2.1
  have hown := X.2.2.2.1
  have hts := X.2.2.2.2.1
  have hl : lv_has ls 2 [(0, .ref o), (1, .int v1)] := hl
  have hB : 0 + C ≤ C ∧ 0 + S ≤ S := ⟨by omega, by omega⟩
  unfold fc_X5_newPerson at hF
  refine lv_iload_n hx hb dX5_newPerson_0 rfl (lv_at hl 1 rfl) ?_
  refine lv_aload_n hx hb dX5_newPerson_1 rfl (lv_at hl 0 rfl) ?_
  obtain ⟨hc, hF⟩ := hF
  refine zc_getf X hH hc 3 203 ("ChurchyardBook$Book", "today", "I", false) (by decide +kernel) (v := .int (zi h 203 o)) rfl q194 (Or.inl rfl) dX5_newPerson_2 ?_
  refine lv_icmp_gt (tgt := 31) hx hb dX5_newPerson_5 (by decide) (fun cd => ?_) (fun cd => ?_)
  · have hF := hF.1 cd
    exact wc_X5_newPerson_31 X hN hT h C S v1 hF _ _ _ _ _ hB (lv_sub hl [0, 1] rfl) hH
  · have hF := hF.2 cd
    refine lv_iload_n hx hb dX5_newPerson_8 rfl (lv_at hl 1 rfl) ?_
    refine lv_ldc (v := (-40000)) hx hb hown (hts _ q852) dX5_newPerson_9 ?_
    refine lv_icmp_lt (tgt := 31) hx hb dX5_newPerson_11 (by decide) (fun cd => ?_) (fun cd => ?_)
    · have hF := hF.1 cd
      exact wc_X5_newPerson_31 X hN hT h C S v1 hF _ _ _ _ _ hB (lv_sub hl [0, 1] rfl) hH
    · have hF := hF.2 cd
      refine lv_aload_n hx hb dX5_newPerson_14 rfl (lv_at hl 0 rfl) ?_
      obtain ⟨hc, hF⟩ := hF
      refine zc_getf X hH hc 2 202 ("ChurchyardBook$Book", "persons", "Ljava/util/ArrayList;", true) (by decide +kernel) (v := va_rf (zr h 202 o)) rfl q192 (Or.inl rfl) dX5_newPerson_15 ?_
      obtain ⟨b1, eb1, hF⟩ := hF
      refine zq_st (st2 := [.ref b1]) (by rw [eb1]; first | done | rfl) ?_
      obtain ⟨hc, hF⟩ := hF
      refine zc_call (c1 := 0) (s1 := 0) (rest := []) hH hB (Nat.zero_le _) (Nat.zero_le _) (fun hf => zc_rV X hH hc (by decide) rfl (As := []) (wc_J2_size X.2.2.2.2.2.2.2.1 hF) (lw_V q349 q350 q351 q94 q352) ⟨rfl, by decide, by decide, rfl⟩ ⟨Nat.le_of_ble_eq_true rfl, Nat.le_of_ble_eq_true rfl, Nat.le_of_ble_eq_true rfl⟩ rfl hl.1 (st0 := [.ref b1]) rfl (Nat.le_of_ble_eq_true rfl) dX5_newPerson_18 hf) (fun E9 ce9 q9 h9 H locs hx9 => False.elim hx9) (fun v9 h9 H locs hv9 hH hB => ?_)
      obtain ⟨z2, rfl, hF, rfl⟩ := hv9
      refine lv_sipush (v := 150) hx hb dX5_newPerson_21 (by decide) ?_
      refine lv_icmp_ge (tgt := 31) hx hb dX5_newPerson_24 (by decide) (fun cd => ?_) (fun cd => ?_)
      · have hF := hF.1 cd
        exact wc_X5_newPerson_31 X hN hT h C S v1 hF _ _ _ _ _ hB (lv_sub hl [0, 1] rfl) hH
      · have hF := hF.2 cd
        refine lv_iconst (v := 1) hx hb dX5_newPerson_27 (by decide) ?_
        refine lv_goto (tgt := 32) hx hb dX5_newPerson_28 (by decide) ?_
        exact wc_X5_newPerson_32 X hN hT h C S v1 1 hF _ _ _ _ _ hB (lv_sub hl [0, 1] rfl) hH
set_option maxHeartbeats 4000000 in
set_option maxRecDepth 100000 in
theorem wc_X5_person_15 {p : Program} {l : Launch} {e : Env} {s : State} {m : MethodId} {args : Array Value} {below : List Frame} {meth : Method} {c : Code} {D : va_G} {cA : Nat → ClassId} {P : Nat → Prop} {G : Nat × Nat × Nat} {C S : Nat} {o : Nat} {Q : Option Nat → Prop} {h0 : ZH} (X : zc_Cx p l s m args meth c cX5_person 2 (some (.object "ChurchyardBook$Person")) "ChurchyardBook$Book" D cA P G) (hN : meth.name = "person") (hT : c.exceptionTable.toList = tableOf []) :
    ∀ (h : ZH), fc_X5_person_15 G o Q h → ∀ (H : Heap) (locs : List Loc) (ls : Array Slot) (cells slots : Nat), cells + 0 ≤ C ∧ slots + 0 ≤ S → h0 = h → lv_has ls 2 [(0, .ref o)] → zc_H D cA P h s H locs → W p l e (zc_Ro 4 C S) s m args below meth c H locs cells slots (vx_MQ below (zc_Q D cA P (fun v h' => ∃ z : Option Nat, v = some (va_rf z) ∧ Q z ∧ h0 = h')) (zc_X D cA P zc_no) args s C S P) (F0 m 15 ls []) := by
  have hx := X.1
  have hb := X.2.1
  have hown := X.2.2.2.1
  have hts := X.2.2.2.2.1
  intro h hF
  intro H locs ls cells slots hB eh hl hH
  unfold fc_X5_person_15 at hF
  refine lv_null hx hb dX5_person_15 ?_
  refine lv_goto (tgt := 30) hx hb dX5_person_16 (by decide) ?_
  exact zc_aret X hH hB rfl (by first | exact Or.inl ⟨_, rfl⟩ | exact Or.inr ⟨_, rfl⟩) (r := none) rfl ⟨_, rfl, hF, eh⟩ dX5_person_30
set_option maxHeartbeats 4000000 in
set_option maxRecDepth 100000 in
theorem wc_X5_person {l : Launch} {D : va_G} {cA : Nat → ClassId} {P : Nat → Prop} {G : Nat × Nat × Nat} {o : Nat} {Q : Option Nat → Prop} {h : ZH} {C S : Nat} {v1 : Int32} (hl9 : l.stackTraces = false) (hF : fc_X5_person G o Q h v1) :
    zc_M l yX5_person (ws_ yX5_person cX5_person 2 (some (.object "ChurchyardBook$Person"))) 4 D cA P G [.ref o, .int v1] h C S (fun v h' => ∃ z : Option Nat, v = some (va_rf z) ∧ Q z ∧ h = h') zc_no := by
  refine zc_ofF hl9 rfl (by decide +kernel) (Nat.le_of_ble_eq_true rfl) ?_
  intro p e s m args below meth c H locs ls X hN hT hH hl
  have hx := X.1
  have hb := X.2.1
  have hown := X.2.2.2.1
  have hts := X.2.2.2.2.1
  have hl : lv_has ls 2 [(0, .ref o), (1, .int v1)] := hl
  have hB : 0 + 0 ≤ C ∧ 0 + 0 ≤ S := ⟨by omega, by omega⟩
  have eh : h = h := rfl
  unfold fc_X5_person at hF
  refine lv_iload_n hx hb dX5_person_0 rfl (lv_at hl 1 rfl) ?_
  refine lv_if_lt (tgt := 15) hx hb dX5_person_1 (by decide) (fun cd => ?_) (fun cd => ?_)
  · have hF := hF.1 cd
    exact wc_X5_person_15 X hN hT h hF _ _ _ _ _ hB eh (lv_sub hl [0] rfl) hH
  · have hF := hF.2 cd
    refine lv_iload_n hx hb dX5_person_4 rfl (lv_at hl 1 rfl) ?_
    refine lv_aload_n hx hb dX5_person_5 rfl (lv_at hl 0 rfl) ?_
    obtain ⟨hc, hF⟩ := hF
    refine zc_getf X hH hc 2 202 ("ChurchyardBook$Book", "persons", "Ljava/util/ArrayList;", true) (by decide +kernel) (v := va_rf (zr h 202 o)) rfl q192 (Or.inl rfl) dX5_person_6 ?_
    obtain ⟨b1, eb1, hF⟩ := hF
    refine zq_st (st2 := [.ref b1, .int v1]) (by rw [eb1]; first | done | rfl) ?_
    obtain ⟨hc, hF⟩ := hF
    refine zc_call (c1 := 0) (s1 := 0) (rest := [.int v1]) hH hB (Nat.zero_le _) (Nat.zero_le _) (fun hf => zc_rV X hH hc (by decide) rfl (As := []) (wc_J2_size X.2.2.2.2.2.2.2.1 hF) (lw_V q349 q350 q351 q94 q352) ⟨rfl, by decide, by decide, rfl⟩ ⟨Nat.le_of_ble_eq_true rfl, Nat.le_of_ble_eq_true rfl, Nat.le_of_ble_eq_true rfl⟩ rfl hl.1 (st0 := [.ref b1, .int v1]) rfl (Nat.le_of_ble_eq_true rfl) dX5_person_9 hf) (fun E9 ce9 q9 h9 H locs hx9 => False.elim hx9) (fun v9 h9 H locs hv9 hH hB => ?_)
    obtain ⟨z2, rfl, hF, rfl⟩ := hv9
    refine lv_icmp_lt (tgt := 19) hx hb dX5_person_12 (by decide) (fun cd => ?_) (fun cd => ?_)
    · have hF := hF.1 cd
      refine lv_aload_n hx hb dX5_person_19 rfl (lv_at hl 0 rfl) ?_
      obtain ⟨hc, hF⟩ := hF
      refine zc_getf X hH hc 2 202 ("ChurchyardBook$Book", "persons", "Ljava/util/ArrayList;", true) (by decide +kernel) (v := va_rf (zr h 202 o)) rfl q192 (Or.inl rfl) dX5_person_20 ?_
      refine lv_iload_n hx hb dX5_person_23 rfl (lv_at hl 1 rfl) ?_
      refine zq_st (st2 := [.int v1, .ref b1]) (by rw [eb1]; first | done | rfl) ?_
      obtain ⟨hc, hF⟩ := hF
      refine zc_call (c1 := 0) (s1 := 0) (rest := []) hH hB (Nat.zero_le _) (Nat.zero_le _) (fun hf => zc_rV X hH hc (by decide) rfl (As := [.int v1]) (wc_J2_get X.2.2.2.2.2.2.2.1 hF) (lw_V q475 q476 q477 q94 q478) ⟨rfl, by decide, by decide, rfl⟩ ⟨Nat.le_of_ble_eq_true rfl, Nat.le_of_ble_eq_true rfl, Nat.le_of_ble_eq_true rfl⟩ rfl hl.1 (st0 := [.int v1, .ref b1]) rfl (Nat.le_of_ble_eq_true rfl) dX5_person_24 hf) (fun E9 ce9 q9 h9 H locs hx9 => False.elim hx9) (fun v9 h9 H locs hv9 hH hB => ?_)
      obtain ⟨r3, rfl, hF, rfl⟩ := hv9
      obtain ⟨hR, hF⟩ := hF
      refine zc_castY X hH (r := r3) [14] "ChurchyardBook$Person" hR (by decide) (by decide +kernel) q853 dX5_person_27 ?_
      exact zc_aret X hH hB rfl (by first | exact Or.inl ⟨_, rfl⟩ | exact Or.inr ⟨_, rfl⟩) (r := r3) rfl ⟨_, rfl, hF, eh⟩ dX5_person_30
    · have hF := hF.2 cd
      exact wc_X5_person_15 X hN hT h hF _ _ _ _ _ hB eh (lv_sub hl [0] rfl) hH
set_option maxHeartbeats 4000000 in
set_option maxRecDepth 100000 in
theorem wc_X16_isParentOf_16 {p : Program} {l : Launch} {e : Env} {s : State} {m : MethodId} {args : Array Value} {below : List Frame} {meth : Method} {c : Code} {D : va_G} {cA : Nat → ClassId} {P : Nat → Prop} {G : Nat × Nat × Nat} {C S : Nat} {o : Nat} {Q : Int32 → Prop} {h0 : ZH} (X : zc_Cx p l s m args meth c cX16_isParentOf 2 (some .boolean) "ChurchyardBook$Person" D cA P G) (hN : meth.name = "isParentOf") (hT : c.exceptionTable.toList = tableOf []) :
    ∀ (h : ZH), fc_X16_isParentOf_16 G o Q h → ∀ (H : Heap) (locs : List Loc) (ls : Array Slot) (cells slots : Nat), cells + 0 ≤ C ∧ slots + 0 ≤ S → h0 = h → lv_has ls 2 [(0, .ref o)] → zc_H D cA P h s H locs → W p l e (zc_Ro 1 C S) s m args below meth c H locs cells slots (vx_MQ below (zc_Q D cA P (fun v h' => ∃ z : Int32, v = some (.int z) ∧ Q z ∧ h0 = h')) (zc_X D cA P zc_no) args s C S P) (F0 m 16 ls []) := by
  have hx := X.1
  have hb := X.2.1
  have hown := X.2.2.2.1
  have hts := X.2.2.2.2.1
  intro h hF
  intro H locs ls cells slots hB eh hl hH
  unfold fc_X16_isParentOf_16 at hF
  refine lv_iconst (v := 1) hx hb dX16_isParentOf_16 (by decide) ?_
  refine lv_goto (tgt := 21) hx hb dX16_isParentOf_17 (by decide) ?_
  exact zc_iret X hH hB rfl rfl ⟨_, rfl, hF, eh⟩ dX16_isParentOf_21
set_option maxHeartbeats 4000000 in
set_option maxRecDepth 100000 in
theorem wc_X16_isParentOf {l : Launch} {D : va_G} {cA : Nat → ClassId} {P : Nat → Prop} {G : Nat × Nat × Nat} {o : Nat} {Q : Int32 → Prop} {h : ZH} {C S : Nat} {q1 : Option Nat} (hl9 : l.stackTraces = false) (hF : fc_X16_isParentOf G o Q h q1) :
    zc_M l yX16_isParentOf (ws_ yX16_isParentOf cX16_isParentOf 2 (some .boolean)) 1 D cA P G [.ref o, va_rf q1] h C S (fun v h' => ∃ z : Int32, v = some (.int z) ∧ Q z ∧ h = h') zc_no := by
  refine zc_ofF hl9 rfl (by decide +kernel) (zc_slle (by simp [zc_k1, zc_kI, zc_kR]) (Nat.le_of_ble_eq_true rfl)) ?_
  intro p e s m args below meth c H locs ls X hN hT hH hl
  have hx := X.1
  have hb := X.2.1
  have hown := X.2.2.2.1
  have hts := X.2.2.2.2.1
  have hl : lv_has ls 2 [(0, .ref o), (1, va_rf q1)] := by
    have h9 := hl
    rw [zc_ags _ (by simp [zc_k1, zc_kI, zc_kR]) 0] at h9
    exact h9
  have hB : 0 + 0 ≤ C ∧ 0 + 0 ≤ S := ⟨by omega, by omega⟩
  have eh : h = h := rfl
  unfold fc_X16_isParentOf at hF
  refine zq_aload_n hx hb dX16_isParentOf_0 rfl (lv_at hl 1 rfl) ?_
  obtain ⟨b1, eb1, hF⟩ := hF
  refine zq_st (st2 := [.ref b1]) (by rw [eb1]; first | done | rfl) ?_
  obtain ⟨hc, hF⟩ := hF
  refine zc_getf X hH hc 5 705 ("ChurchyardBook$Person", "first", "LChurchyardBook$Person;", false) (by decide +kernel) (v := va_rf (zr h 705 b1)) rfl q876 (Or.inl rfl) dX16_isParentOf_1 ?_
  refine lv_aload_n hx hb dX16_isParentOf_4 rfl (lv_at hl 0 rfl) ?_
  refine lv_acmp_eq (rx := (zr h 705 b1)) (ry := (some o)) (tgt := 16) hx hb dX16_isParentOf_5 (by decide) (fun cd => ?_) (fun cd => ?_)
  · have hF := hF.1 cd
    exact wc_X16_isParentOf_16 X hN hT h hF _ _ _ _ _ hB eh (lv_sub hl [0] rfl) hH
  · have hF := hF.2 cd
    refine zq_aload_n hx hb dX16_isParentOf_8 rfl (lv_at hl 1 rfl) ?_
    refine zq_st (st2 := [.ref b1]) (by rw [eb1]; first | done | rfl) ?_
    obtain ⟨hc, hF⟩ := hF
    refine zc_getf X hH hc 6 706 ("ChurchyardBook$Person", "second", "LChurchyardBook$Person;", false) (by decide +kernel) (v := va_rf (zr h 706 b1)) rfl q879 (Or.inl rfl) dX16_isParentOf_9 ?_
    refine lv_aload_n hx hb dX16_isParentOf_12 rfl (lv_at hl 0 rfl) ?_
    refine lv_acmp_ne (rx := (zr h 706 b1)) (ry := (some o)) (tgt := 20) hx hb dX16_isParentOf_13 (by decide) (fun cd => ?_) (fun cd => ?_)
    · have hF := hF.1 cd
      refine lv_iconst (v := 0) hx hb dX16_isParentOf_20 (by decide) ?_
      exact zc_iret X hH hB rfl rfl ⟨_, rfl, hF, eh⟩ dX16_isParentOf_21
    · have hF := hF.2 cd
      exact wc_X16_isParentOf_16 X hN hT h hF _ _ _ _ _ hB eh (lv_sub hl [0] rfl) hH
set_option maxHeartbeats 4000000 in
set_option maxRecDepth 100000 in
theorem wc_X5_kin_138 {p : Program} {l : Launch} {e : Env} {s : State} {m : MethodId} {args : Array Value} {below : List Frame} {meth : Method} {c : Code} {D : va_G} {cA : Nat → ClassId} {P : Nat → Prop} {G : Nat × Nat × Nat} {C S : Nat} {o : Nat} {Q : Int32 → ZH → Prop} {XE : String → Nat → ZH → Prop} (X : zc_Cx p l s m args meth c cX5_kin 6 (some .int) "ChurchyardBook$Book" D cA P G) (hN : meth.name = "kin") (hT : c.exceptionTable.toList = tableOf []) :
    ∀ (h : ZH) (bc bs : Nat) (q4 : Option Nat) (q5 : Option Nat) (t0 : Int32), fc_X5_kin_138 G o Q XE h bc bs q4 q5 t0 → ∀ (H : Heap) (locs : List Loc) (ls : Array Slot) (cells slots : Nat), cells + bc ≤ C ∧ slots + bs ≤ S → lv_has ls 6 [(0, .ref o), (4, va_rf q4), (5, va_rf q5)] → zc_H D cA P h s H locs → W p l e (zc_Ro 5 C S) s m args below meth c H locs cells slots (vx_MQ below (zc_Q D cA P (fun v h' => ∃ z : Int32, v = some (.int z) ∧ Q z h')) (zc_X D cA P XE) args s C S P) (F0 m 138 ls [.int t0]) := by
  have hx := X.1
  have hb := X.2.1
  have hown := X.2.2.2.1
  have hts := X.2.2.2.2.1
  intro h bc bs q4 q5 t0 hF
  intro H locs ls cells slots hB hl hH
  unfold fc_X5_kin_138 at hF
  refine lv_iconst (v := (-1)) hx hb dX5_kin_138 (by decide) ?_
  obtain ⟨c1, s2, hc1, hs1, hF⟩ := hF
  refine zc_call (c1 := c1) (s1 := s2) (rest := []) hH hB hc1 hs1 (fun hf => zc_rSN X hH (As := [.int t0, .int (-1)]) (host := "ChurchyardBook") (wc_X1_need X.2.2.2.2.2.2.2.1 hF) (lw_meth q265) (by decide +kernel) q87 q264 ⟨by decide, by decide, rfl⟩ ⟨Nat.le_of_ble_eq_true rfl, Nat.le_of_ble_eq_true rfl, Nat.le_of_ble_eq_true rfl⟩ rfl hl.1 (st0 := [.int (-1), .int t0]) rfl (Nat.le_of_ble_eq_true rfl) dX5_kin_139 hf) (fun E9 ce9 q3 h4 H locs hx9 hH hB hce hcv hcl => ?_) (fun v9 h9 H locs hv9 hH hB => ?_)
  · exact zc_out X hH hB (by rw [hT]; intro x hx9; cases hx9) hce hcv hcl hx9
  obtain ⟨rfl, hF, rfl⟩ := hv9
  refine zq_aload hx hb dX5_kin_142 (lv_at hl 2 rfl) ?_
  obtain ⟨b5, eb5, hF⟩ := hF
  refine zq_st (st2 := [.ref b5]) (by rw [eb5]; first | done | rfl) ?_
  obtain ⟨hc, hF⟩ := hF
  refine zc_getf X hH hc 5 705 ("ChurchyardBook$Person", "first", "LChurchyardBook$Person;", false) (by decide +kernel) (v := va_rf (zr h 705 b5)) rfl q877 (Or.inl rfl) dX5_kin_144 ?_
  refine zq_ifnonnull (tgt := 160) hx hb dX5_kin_147 (by decide) (fun b6 eb6 => ?_) (fun cd => ?_)
  · have hF := hF.2 b6 eb6
    refine zq_aload hx hb dX5_kin_160 (lv_at hl 2 rfl) ?_
    refine zq_aload hx hb dX5_kin_162 (lv_at hl 1 rfl) ?_
    refine zq_st (st2 := [va_rf q4, .ref b5]) (by rw [eb5]; first | done | rfl) ?_
    obtain ⟨hc, hF⟩ := hF
    refine zc_putr X hH hc 6 706 ("ChurchyardBook$Person", "second", "LChurchyardBook$Person;", false) (by decide +kernel) rfl q880 (Or.inl rfl) (x := q4) rfl (ty := (.object "ChurchyardBook$Person")) (by decide +kernel) rfl (Or.inl rfl) dX5_kin_164 (fun h7 H locs eh7 hH => ?_)
    have hF := hF h7 eh7
    refine lv_iconst (v := 0) hx hb dX5_kin_167 (by decide) ?_
    exact zc_iret X hH hB rfl rfl ⟨_, rfl, hF⟩ dX5_kin_168
  · have hF := hF.1 cd
    refine zq_aload hx hb dX5_kin_150 (lv_at hl 2 rfl) ?_
    refine zq_aload hx hb dX5_kin_152 (lv_at hl 1 rfl) ?_
    refine zq_st (st2 := [va_rf q4, .ref b5]) (by rw [eb5]; first | done | rfl) ?_
    obtain ⟨hc, hF⟩ := hF
    refine zc_putr X hH hc 5 705 ("ChurchyardBook$Person", "first", "LChurchyardBook$Person;", false) (by decide +kernel) rfl q877 (Or.inl rfl) (x := q4) rfl (ty := (.object "ChurchyardBook$Person")) (by decide +kernel) rfl (Or.inl rfl) dX5_kin_154 (fun h8 H locs eh8 hH => ?_)
    have hF := hF h8 eh8
    refine lv_goto (tgt := 167) hx hb dX5_kin_157 (by decide) ?_
    refine lv_iconst (v := 0) hx hb dX5_kin_167 (by decide) ?_
    exact zc_iret X hH hB rfl rfl ⟨_, rfl, hF⟩ dX5_kin_168
set_option maxHeartbeats 4000000 in
set_option maxRecDepth 100000 in
theorem wc_X5_kin_137 {p : Program} {l : Launch} {e : Env} {s : State} {m : MethodId} {args : Array Value} {below : List Frame} {meth : Method} {c : Code} {D : va_G} {cA : Nat → ClassId} {P : Nat → Prop} {G : Nat × Nat × Nat} {C S : Nat} {o : Nat} {Q : Int32 → ZH → Prop} {XE : String → Nat → ZH → Prop} (X : zc_Cx p l s m args meth c cX5_kin 6 (some .int) "ChurchyardBook$Book" D cA P G) (hN : meth.name = "kin") (hT : c.exceptionTable.toList = tableOf []) :
    ∀ (h : ZH) (bc bs : Nat) (q4 : Option Nat) (q5 : Option Nat), fc_X5_kin_137 G o Q XE h bc bs q4 q5 → ∀ (H : Heap) (locs : List Loc) (ls : Array Slot) (cells slots : Nat), cells + bc ≤ C ∧ slots + bs ≤ S → lv_has ls 6 [(0, .ref o), (4, va_rf q4), (5, va_rf q5)] → zc_H D cA P h s H locs → W p l e (zc_Ro 5 C S) s m args below meth c H locs cells slots (vx_MQ below (zc_Q D cA P (fun v h' => ∃ z : Int32, v = some (.int z) ∧ Q z h')) (zc_X D cA P XE) args s C S P) (F0 m 137 ls []) := by
  have hx := X.1
  have hb := X.2.1
  have hown := X.2.2.2.1
  have hts := X.2.2.2.2.1
  intro h bc bs q4 q5 hF
  intro H locs ls cells slots hB hl hH
  unfold fc_X5_kin_137 at hF
  refine lv_iconst (v := 0) hx hb dX5_kin_137 (by decide) ?_
  exact wc_X5_kin_138 X hN hT h bc bs q4 q5 0 hF _ _ _ _ _ hB (lv_sub hl [0, 1, 2] rfl) hH
set_option maxHeartbeats 4000000 in
set_option maxRecDepth 100000 in
theorem wc_X5_kin_133 {p : Program} {l : Launch} {e : Env} {s : State} {m : MethodId} {args : Array Value} {below : List Frame} {meth : Method} {c : Code} {D : va_G} {cA : Nat → ClassId} {P : Nat → Prop} {G : Nat × Nat × Nat} {C S : Nat} {o : Nat} {Q : Int32 → ZH → Prop} {XE : String → Nat → ZH → Prop} (X : zc_Cx p l s m args meth c cX5_kin 6 (some .int) "ChurchyardBook$Book" D cA P G) (hN : meth.name = "kin") (hT : c.exceptionTable.toList = tableOf []) :
    ∀ (h : ZH) (bc bs : Nat) (q4 : Option Nat) (q5 : Option Nat), fc_X5_kin_133 G o Q XE h bc bs q4 q5 → ∀ (H : Heap) (locs : List Loc) (ls : Array Slot) (cells slots : Nat), cells + bc ≤ C ∧ slots + bs ≤ S → lv_has ls 6 [(0, .ref o), (4, va_rf q4), (5, va_rf q5)] → zc_H D cA P h s H locs → W p l e (zc_Ro 5 C S) s m args below meth c H locs cells slots (vx_MQ below (zc_Q D cA P (fun v h' => ∃ z : Int32, v = some (.int z) ∧ Q z h')) (zc_X D cA P XE) args s C S P) (F0 m 133 ls []) := by
  have hx := X.1
  have hb := X.2.1
  have hown := X.2.2.2.1
  have hts := X.2.2.2.2.1
  intro h bc bs q4 q5 hF
  intro H locs ls cells slots hB hl hH
  unfold fc_X5_kin_133 at hF
  refine lv_iconst (v := 1) hx hb dX5_kin_133 (by decide) ?_
  refine lv_goto (tgt := 138) hx hb dX5_kin_134 (by decide) ?_
  exact wc_X5_kin_138 X hN hT h bc bs q4 q5 1 hF _ _ _ _ _ hB (lv_sub hl [0, 1, 2] rfl) hH
set_option maxHeartbeats 4000000 in
set_option maxRecDepth 100000 in
theorem wc_X5_kin_74 {p : Program} {l : Launch} {e : Env} {s : State} {m : MethodId} {args : Array Value} {below : List Frame} {meth : Method} {c : Code} {D : va_G} {cA : Nat → ClassId} {P : Nat → Prop} {G : Nat × Nat × Nat} {C S : Nat} {o : Nat} {Q : Int32 → ZH → Prop} {XE : String → Nat → ZH → Prop} (X : zc_Cx p l s m args meth c cX5_kin 6 (some .int) "ChurchyardBook$Book" D cA P G) (hN : meth.name = "kin") (hT : c.exceptionTable.toList = tableOf []) :
    ∀ (h : ZH) (bc bs : Nat) (q4 : Option Nat) (q5 : Option Nat) (t0 : Int32), fc_X5_kin_74 G o Q XE h bc bs q4 q5 t0 → ∀ (H : Heap) (locs : List Loc) (ls : Array Slot) (cells slots : Nat), cells + bc ≤ C ∧ slots + bs ≤ S → lv_has ls 6 [(0, .ref o), (4, va_rf q4), (5, va_rf q5)] → zc_H D cA P h s H locs → W p l e (zc_Ro 5 C S) s m args below meth c H locs cells slots (vx_MQ below (zc_Q D cA P (fun v h' => ∃ z : Int32, v = some (.int z) ∧ Q z h')) (zc_X D cA P XE) args s C S P) (F0 m 74 ls [.int t0]) := by
  have hx := X.1
  have hb := X.2.1
  have hown := X.2.2.2.1
  have hts := X.2.2.2.2.1
  intro h bc bs q4 q5 t0 hF
  intro H locs ls cells slots hB hl hH
  unfold fc_X5_kin_74 at hF
  refine lv_iconst (v := (-1)) hx hb dX5_kin_74 (by decide) ?_
  obtain ⟨c1, s2, hc1, hs1, hF⟩ := hF
  refine zc_call (c1 := c1) (s1 := s2) (rest := []) hH hB hc1 hs1 (fun hf => zc_rSN X hH (As := [.int t0, .int (-1)]) (host := "ChurchyardBook") (wc_X1_need X.2.2.2.2.2.2.2.1 hF) (lw_meth q265) (by decide +kernel) q87 q264 ⟨by decide, by decide, rfl⟩ ⟨Nat.le_of_ble_eq_true rfl, Nat.le_of_ble_eq_true rfl, Nat.le_of_ble_eq_true rfl⟩ rfl hl.1 (st0 := [.int (-1), .int t0]) rfl (Nat.le_of_ble_eq_true rfl) dX5_kin_75 hf) (fun E9 ce9 q3 h4 H locs hx9 hH hB hce hcv hcl => ?_) (fun v9 h9 H locs hv9 hH hB => ?_)
  · exact zc_out X hH hB (by rw [hT]; intro x hx9; cases hx9) hce hcv hcl hx9
  obtain ⟨rfl, hF, rfl⟩ := hv9
  refine zq_aload hx hb dX5_kin_78 (lv_at hl 1 rfl) ?_
  refine zq_aload hx hb dX5_kin_80 (lv_at hl 2 rfl) ?_
  obtain ⟨b5, eb5, hF⟩ := hF
  refine zq_st (st2 := [va_rf q5, .ref b5]) (by rw [eb5]; first | done | rfl) ?_
  obtain ⟨hc, hF⟩ := hF
  refine zc_putr X hH hc 4 704 ("ChurchyardBook$Person", "wed", "LChurchyardBook$Person;", false) (by decide +kernel) rfl q873 (Or.inl rfl) (x := q5) rfl (ty := (.object "ChurchyardBook$Person")) (by decide +kernel) rfl (Or.inl rfl) dX5_kin_82 (fun h6 H locs eh6 hH => ?_)
  have hF := hF h6 eh6
  refine zq_aload hx hb dX5_kin_85 (lv_at hl 2 rfl) ?_
  refine zq_aload hx hb dX5_kin_87 (lv_at hl 1 rfl) ?_
  obtain ⟨b7, eb7, hF⟩ := hF
  refine zq_st (st2 := [va_rf q4, .ref b7]) (by rw [eb7]; first | done | rfl) ?_
  obtain ⟨hc, hF⟩ := hF
  refine zc_putr X hH hc 4 704 ("ChurchyardBook$Person", "wed", "LChurchyardBook$Person;", false) (by decide +kernel) rfl q873 (Or.inl rfl) (x := q4) rfl (ty := (.object "ChurchyardBook$Person")) (by decide +kernel) rfl (Or.inl rfl) dX5_kin_89 (fun h8 H locs eh8 hH => ?_)
  have hF := hF h8 eh8
  refine lv_iconst (v := 0) hx hb dX5_kin_92 (by decide) ?_
  exact zc_iret X hH hB rfl rfl ⟨_, rfl, hF⟩ dX5_kin_93
set_option maxHeartbeats 4000000 in
set_option maxRecDepth 100000 in
theorem wc_X5_kin_73 {p : Program} {l : Launch} {e : Env} {s : State} {m : MethodId} {args : Array Value} {below : List Frame} {meth : Method} {c : Code} {D : va_G} {cA : Nat → ClassId} {P : Nat → Prop} {G : Nat × Nat × Nat} {C S : Nat} {o : Nat} {Q : Int32 → ZH → Prop} {XE : String → Nat → ZH → Prop} (X : zc_Cx p l s m args meth c cX5_kin 6 (some .int) "ChurchyardBook$Book" D cA P G) (hN : meth.name = "kin") (hT : c.exceptionTable.toList = tableOf []) :
    ∀ (h : ZH) (bc bs : Nat) (q4 : Option Nat) (q5 : Option Nat), fc_X5_kin_73 G o Q XE h bc bs q4 q5 → ∀ (H : Heap) (locs : List Loc) (ls : Array Slot) (cells slots : Nat), cells + bc ≤ C ∧ slots + bs ≤ S → lv_has ls 6 [(0, .ref o), (4, va_rf q4), (5, va_rf q5)] → zc_H D cA P h s H locs → W p l e (zc_Ro 5 C S) s m args below meth c H locs cells slots (vx_MQ below (zc_Q D cA P (fun v h' => ∃ z : Int32, v = some (.int z) ∧ Q z h')) (zc_X D cA P XE) args s C S P) (F0 m 73 ls []) := by
  have hx := X.1
  have hb := X.2.1
  have hown := X.2.2.2.1
  have hts := X.2.2.2.2.1
  intro h bc bs q4 q5 hF
  intro H locs ls cells slots hB hl hH
  unfold fc_X5_kin_73 at hF
  refine lv_iconst (v := 0) hx hb dX5_kin_73 (by decide) ?_
  exact wc_X5_kin_74 X hN hT h bc bs q4 q5 0 hF _ _ _ _ _ hB (lv_sub hl [0, 1, 2] rfl) hH
set_option maxHeartbeats 4000000 in
set_option maxRecDepth 100000 in
theorem wc_X5_kin_45 {p : Program} {l : Launch} {e : Env} {s : State} {m : MethodId} {args : Array Value} {below : List Frame} {meth : Method} {c : Code} {D : va_G} {cA : Nat → ClassId} {P : Nat → Prop} {G : Nat × Nat × Nat} {C S : Nat} {o : Nat} {Q : Int32 → ZH → Prop} {XE : String → Nat → ZH → Prop} (X : zc_Cx p l s m args meth c cX5_kin 6 (some .int) "ChurchyardBook$Book" D cA P G) (hN : meth.name = "kin") (hT : c.exceptionTable.toList = tableOf []) :
    ∀ (h : ZH) (bc bs : Nat) (v2 : Int32) (q4 : Option Nat) (q5 : Option Nat) (t0 : Int32), fc_X5_kin_45 G o Q XE h bc bs v2 q4 q5 t0 → ∀ (H : Heap) (locs : List Loc) (ls : Array Slot) (cells slots : Nat), cells + bc ≤ C ∧ slots + bs ≤ S → lv_has ls 6 [(0, .ref o), (2, .int v2), (4, va_rf q4), (5, va_rf q5)] → zc_H D cA P h s H locs → W p l e (zc_Ro 5 C S) s m args below meth c H locs cells slots (vx_MQ below (zc_Q D cA P (fun v h' => ∃ z : Int32, v = some (.int z) ∧ Q z h')) (zc_X D cA P XE) args s C S P) (F0 m 45 ls [.int t0]) := by
  have hx := X.1
  have hb := X.2.1
  have hown := X.2.2.2.1
  have hts := X.2.2.2.2.1
  intro h bc bs v2 q4 q5 t0 hF
  intro H locs ls cells slots hB hl hH
  unfold fc_X5_kin_45 at hF
  refine lv_iconst (v := (-1)) hx hb dX5_kin_45 (by decide) ?_
  obtain ⟨c1, s2, hc1, hs1, hF⟩ := hF
  refine zc_call (c1 := c1) (s1 := s2) (rest := []) hH hB hc1 hs1 (fun hf => zc_rSN X hH (As := [.int t0, .int (-1)]) (host := "ChurchyardBook") (wc_X1_need X.2.2.2.2.2.2.2.1 hF) (lw_meth q265) (by decide +kernel) q87 q264 ⟨by decide, by decide, rfl⟩ ⟨Nat.le_of_ble_eq_true rfl, Nat.le_of_ble_eq_true rfl, Nat.le_of_ble_eq_true rfl⟩ rfl hl.1 (st0 := [.int (-1), .int t0]) rfl (Nat.le_of_ble_eq_true rfl) dX5_kin_46 hf) (fun E9 ce9 q3 h4 H locs hx9 hH hB hce hcv hcl => ?_) (fun v9 h9 H locs hv9 hH hB => ?_)
  · exact zc_out X hH hB (by rw [hT]; intro x hx9; cases hx9) hce hcv hcl hx9
  obtain ⟨rfl, hF, rfl⟩ := hv9
  refine lv_iload_n hx hb dX5_kin_49 rfl (lv_at hl 1 rfl) ?_
  refine lv_if_ne (tgt := 94) hx hb dX5_kin_50 (by decide) (fun cd => ?_) (fun cd => ?_)
  · have hF := hF.1 cd
    refine zq_aload hx hb dX5_kin_94 (lv_at hl 2 rfl) ?_
    refine zq_aload hx hb dX5_kin_96 (lv_at hl 3 rfl) ?_
    obtain ⟨b5, eb5, hF⟩ := hF
    refine zq_st (st2 := [va_rf q5, .ref b5]) (by rw [eb5]; first | done | rfl) ?_
    obtain ⟨hc, hF⟩ := hF
    refine zc_call (c1 := 0) (s1 := 0) (rest := []) hH hB (Nat.zero_le _) (Nat.zero_le _) (fun hf => zc_rV X hH hc (by decide) rfl (As := [va_rf q5]) (wc_X16_isParentOf X.2.2.2.2.2.2.2.1 hF) (lw_V q941 q942 q943 q121 q944) ⟨rfl, by decide, by decide, rfl⟩ ⟨Nat.le_of_ble_eq_true rfl, Nat.le_of_ble_eq_true rfl, Nat.le_of_ble_eq_true rfl⟩ rfl hl.1 (st0 := [va_rf q5, .ref b5]) rfl (Nat.le_of_ble_eq_true rfl) dX5_kin_98 hf) (fun E9 ce9 q9 h9 H locs hx9 => False.elim hx9) (fun v9 h9 H locs hv9 hH hB => ?_)
    obtain ⟨z6, rfl, hF, rfl⟩ := hv9
    refine lv_if_ne (tgt := 137) hx hb dX5_kin_101 (by decide) (fun cd => ?_) (fun cd => ?_)
    · have hF := hF.1 cd
      exact wc_X5_kin_137 X hN hT h (bc - c1) (bs - s2) q4 q5 hF _ _ _ _ _ hB (lv_sub hl [0, 2, 3] rfl) hH
    · have hF := hF.2 cd
      refine zq_aload hx hb dX5_kin_104 (lv_at hl 2 rfl) ?_
      refine zq_st (st2 := [.ref b5]) (by rw [eb5]; first | done | rfl) ?_
      obtain ⟨hc, hF⟩ := hF
      refine zc_getf X hH hc 1 701 ("ChurchyardBook$Person", "born", "I", true) (by decide +kernel) (v := .int (zi h 701 b5)) rfl q866 (Or.inl rfl) dX5_kin_106 ?_
      refine zq_aload hx hb dX5_kin_109 (lv_at hl 3 rfl) ?_
      obtain ⟨b7, eb7, hF⟩ := hF
      refine zq_st (st2 := [.ref b7, .int (zi h 701 b5)]) (by rw [eb7]; first | done | rfl) ?_
      obtain ⟨hc, hF⟩ := hF
      refine zc_getf X hH hc 1 701 ("ChurchyardBook$Person", "born", "I", true) (by decide +kernel) (v := .int (zi h 701 b7)) rfl q866 (Or.inl rfl) dX5_kin_111 ?_
      refine lv_icmp_ge (tgt := 137) hx hb dX5_kin_114 (by decide) (fun cd => ?_) (fun cd => ?_)
      · have hF := hF.1 cd
        exact wc_X5_kin_137 X hN hT h (bc - c1) (bs - s2) q4 q5 hF _ _ _ _ _ hB (lv_sub hl [0, 2, 3] rfl) hH
      · have hF := hF.2 cd
        refine zq_aload hx hb dX5_kin_117 (lv_at hl 3 rfl) ?_
        refine zq_st (st2 := [.ref b7]) (by rw [eb7]; first | done | rfl) ?_
        obtain ⟨hc, hF⟩ := hF
        refine zc_getf X hH hc 5 705 ("ChurchyardBook$Person", "first", "LChurchyardBook$Person;", false) (by decide +kernel) (v := va_rf (zr h 705 b7)) rfl q877 (Or.inl rfl) dX5_kin_119 ?_
        refine zq_ifnull (tgt := 133) hx hb dX5_kin_122 (by decide) (fun cd => ?_) (fun b8 eb8 => ?_)
        · have hF := hF.1 cd
          exact wc_X5_kin_133 X hN hT h (bc - c1) (bs - s2) q4 q5 hF _ _ _ _ _ hB (lv_sub hl [0, 2, 3] rfl) hH
        · have hF := hF.2 b8 eb8
          refine zq_aload hx hb dX5_kin_125 (lv_at hl 3 rfl) ?_
          refine zq_st (st2 := [.ref b7]) (by rw [eb7]; first | done | rfl) ?_
          obtain ⟨hc, hF⟩ := hF
          refine zc_getf X hH hc 6 706 ("ChurchyardBook$Person", "second", "LChurchyardBook$Person;", false) (by decide +kernel) (v := va_rf (zr h 706 b7)) rfl q880 (Or.inl rfl) dX5_kin_127 ?_
          refine zq_ifnonnull (tgt := 137) hx hb dX5_kin_130 (by decide) (fun b9 eb9 => ?_) (fun cd => ?_)
          · have hF := hF.2 b9 eb9
            exact wc_X5_kin_137 X hN hT h (bc - c1) (bs - s2) q4 q5 hF _ _ _ _ _ hB (lv_sub hl [0, 2, 3] rfl) hH
          · have hF := hF.1 cd
            exact wc_X5_kin_133 X hN hT h (bc - c1) (bs - s2) q4 q5 hF _ _ _ _ _ hB (lv_sub hl [0, 2, 3] rfl) hH
  · have hF := hF.2 cd
    refine zq_aload hx hb dX5_kin_53 (lv_at hl 2 rfl) ?_
    obtain ⟨b10, eb10, hF⟩ := hF
    refine zq_st (st2 := [.ref b10]) (by rw [eb10]; first | done | rfl) ?_
    obtain ⟨hc, hF⟩ := hF
    refine zc_getf X hH hc 4 704 ("ChurchyardBook$Person", "wed", "LChurchyardBook$Person;", false) (by decide +kernel) (v := va_rf (zr h 704 b10)) rfl q873 (Or.inl rfl) dX5_kin_55 ?_
    refine zq_ifnonnull (tgt := 73) hx hb dX5_kin_58 (by decide) (fun b11 eb11 => ?_) (fun cd => ?_)
    · have hF := hF.2 b11 eb11
      exact wc_X5_kin_73 X hN hT h (bc - c1) (bs - s2) q4 q5 hF _ _ _ _ _ hB (lv_sub hl [0, 2, 3] rfl) hH
    · have hF := hF.1 cd
      refine zq_aload hx hb dX5_kin_61 (lv_at hl 3 rfl) ?_
      obtain ⟨b12, eb12, hF⟩ := hF
      refine zq_st (st2 := [.ref b12]) (by rw [eb12]; first | done | rfl) ?_
      obtain ⟨hc, hF⟩ := hF
      refine zc_getf X hH hc 4 704 ("ChurchyardBook$Person", "wed", "LChurchyardBook$Person;", false) (by decide +kernel) (v := va_rf (zr h 704 b12)) rfl q873 (Or.inl rfl) dX5_kin_63 ?_
      refine zq_ifnonnull (tgt := 73) hx hb dX5_kin_66 (by decide) (fun b13 eb13 => ?_) (fun cd => ?_)
      · have hF := hF.2 b13 eb13
        exact wc_X5_kin_73 X hN hT h (bc - c1) (bs - s2) q4 q5 hF _ _ _ _ _ hB (lv_sub hl [0, 2, 3] rfl) hH
      · have hF := hF.1 cd
        refine lv_iconst (v := 1) hx hb dX5_kin_69 (by decide) ?_
        refine lv_goto (tgt := 74) hx hb dX5_kin_70 (by decide) ?_
        exact wc_X5_kin_74 X hN hT h (bc - c1) (bs - s2) q4 q5 1 hF _ _ _ _ _ hB (lv_sub hl [0, 2, 3] rfl) hH
set_option maxHeartbeats 4000000 in
set_option maxRecDepth 100000 in
theorem wc_X5_kin_44 {p : Program} {l : Launch} {e : Env} {s : State} {m : MethodId} {args : Array Value} {below : List Frame} {meth : Method} {c : Code} {D : va_G} {cA : Nat → ClassId} {P : Nat → Prop} {G : Nat × Nat × Nat} {C S : Nat} {o : Nat} {Q : Int32 → ZH → Prop} {XE : String → Nat → ZH → Prop} (X : zc_Cx p l s m args meth c cX5_kin 6 (some .int) "ChurchyardBook$Book" D cA P G) (hN : meth.name = "kin") (hT : c.exceptionTable.toList = tableOf []) :
    ∀ (h : ZH) (bc bs : Nat) (v2 : Int32) (q4 : Option Nat) (q5 : Option Nat), fc_X5_kin_44 G o Q XE h bc bs v2 q4 q5 → ∀ (H : Heap) (locs : List Loc) (ls : Array Slot) (cells slots : Nat), cells + bc ≤ C ∧ slots + bs ≤ S → lv_has ls 6 [(0, .ref o), (2, .int v2), (4, va_rf q4), (5, va_rf q5)] → zc_H D cA P h s H locs → W p l e (zc_Ro 5 C S) s m args below meth c H locs cells slots (vx_MQ below (zc_Q D cA P (fun v h' => ∃ z : Int32, v = some (.int z) ∧ Q z h')) (zc_X D cA P XE) args s C S P) (F0 m 44 ls []) := by
  have hx := X.1
  have hb := X.2.1
  have hown := X.2.2.2.1
  have hts := X.2.2.2.2.1
  intro h bc bs v2 q4 q5 hF
  intro H locs ls cells slots hB hl hH
  unfold fc_X5_kin_44 at hF
  refine lv_iconst (v := 0) hx hb dX5_kin_44 (by decide) ?_
  exact wc_X5_kin_45 X hN hT h bc bs v2 q4 q5 0 hF _ _ _ _ _ hB (lv_sub hl [0, 1, 2, 3] rfl) hH
set_option maxHeartbeats 4000000 in
set_option maxRecDepth 100000 in
theorem wc_X5_kin_40 {p : Program} {l : Launch} {e : Env} {s : State} {m : MethodId} {args : Array Value} {below : List Frame} {meth : Method} {c : Code} {D : va_G} {cA : Nat → ClassId} {P : Nat → Prop} {G : Nat × Nat × Nat} {C S : Nat} {o : Nat} {Q : Int32 → ZH → Prop} {XE : String → Nat → ZH → Prop} (X : zc_Cx p l s m args meth c cX5_kin 6 (some .int) "ChurchyardBook$Book" D cA P G) (hN : meth.name = "kin") (hT : c.exceptionTable.toList = tableOf []) :
    ∀ (h : ZH) (bc bs : Nat) (v2 : Int32) (q4 : Option Nat) (q5 : Option Nat), fc_X5_kin_40 G o Q XE h bc bs v2 q4 q5 → ∀ (H : Heap) (locs : List Loc) (ls : Array Slot) (cells slots : Nat), cells + bc ≤ C ∧ slots + bs ≤ S → lv_has ls 6 [(0, .ref o), (2, .int v2), (4, va_rf q4), (5, va_rf q5)] → zc_H D cA P h s H locs → W p l e (zc_Ro 5 C S) s m args below meth c H locs cells slots (vx_MQ below (zc_Q D cA P (fun v h' => ∃ z : Int32, v = some (.int z) ∧ Q z h')) (zc_X D cA P XE) args s C S P) (F0 m 40 ls []) := by
  have hx := X.1
  have hb := X.2.1
  have hown := X.2.2.2.1
  have hts := X.2.2.2.2.1
  intro h bc bs v2 q4 q5 hF
  intro H locs ls cells slots hB hl hH
  unfold fc_X5_kin_40 at hF
  refine lv_iconst (v := 1) hx hb dX5_kin_40 (by decide) ?_
  refine lv_goto (tgt := 45) hx hb dX5_kin_41 (by decide) ?_
  exact wc_X5_kin_45 X hN hT h bc bs v2 q4 q5 1 hF _ _ _ _ _ hB (lv_sub hl [0, 1, 2, 3] rfl) hH
set_option maxHeartbeats 4000000 in
set_option maxRecDepth 100000 in
theorem wc_X5_kin {l : Launch} {D : va_G} {cA : Nat → ClassId} {P : Nat → Prop} {G : Nat × Nat × Nat} {o : Nat} {Q : Int32 → ZH → Prop} {XE : String → Nat → ZH → Prop} {h : ZH} {C S : Nat} {v1 : Int32} {v2 : Int32} {v3 : Int32} (hl9 : l.stackTraces = false) (hF : fc_X5_kin G o Q XE h C S v1 v2 v3) :
    zc_M l yX5_kin (ws_ yX5_kin cX5_kin 6 (some .int)) 5 D cA P G [.ref o, .int v1, .int v2, .int v3] h C S (fun v h' => ∃ z : Int32, v = some (.int z) ∧ Q z h') XE := by
  refine zc_ofF hl9 rfl (by decide +kernel) (Nat.le_of_ble_eq_true rfl) ?_
  intro p e s m args below meth c H locs ls X hN hT hH hl
  have hx := X.1
  have hb := X.2.1
  have hown := X.2.2.2.1
  have hts := X.2.2.2.2.1
  have hl : lv_has ls 6 [(0, .ref o), (1, .int v1), (2, .int v2), (3, .int v3)] := hl
  have hB : 0 + C ≤ C ∧ 0 + S ≤ S := ⟨by omega, by omega⟩
  unfold fc_X5_kin at hF
  refine lv_aload_n hx hb dX5_kin_0 rfl (lv_at hl 0 rfl) ?_
  refine lv_iload_n hx hb dX5_kin_1 rfl (lv_at hl 1 rfl) ?_
  obtain ⟨hc, hF⟩ := hF
  refine zc_call (c1 := 0) (s1 := 0) (rest := []) hH hB (Nat.zero_le _) (Nat.zero_le _) (fun hf => zc_rV X hH hc (by decide) rfl (As := [.int v1]) (wc_X5_person X.2.2.2.2.2.2.2.1 hF) (lw_V q937 q938 q939 q91 q940) ⟨rfl, by decide, by decide, rfl⟩ ⟨Nat.le_of_ble_eq_true rfl, Nat.le_of_ble_eq_true rfl, Nat.le_of_ble_eq_true rfl⟩ rfl hl.1 (st0 := [.int v1, .ref o]) rfl (Nat.le_of_ble_eq_true rfl) dX5_kin_2 hf) (fun E9 ce9 q9 h9 H locs hx9 => False.elim hx9) (fun v9 h9 H locs hv9 hH hB => ?_)
  obtain ⟨r1, rfl, hF, rfl⟩ := hv9
  refine zq_astore (r := r1) (lv' := [(4, va_rf r1), (0, .ref o), (1, .int v1), (2, .int v2), (3, .int v3)]) hx hb rfl dX5_kin_5 hl (by decide) rfl (fun ls hl => ?_)
  refine lv_aload_n hx hb dX5_kin_7 rfl (lv_at hl 1 rfl) ?_
  refine lv_iload_n hx hb dX5_kin_8 rfl (lv_at hl 4 rfl) ?_
  obtain ⟨hc, hF⟩ := hF
  refine zc_call (c1 := 0) (s1 := 0) (rest := []) hH hB (Nat.zero_le _) (Nat.zero_le _) (fun hf => zc_rV X hH hc (by decide) rfl (As := [.int v3]) (wc_X5_person X.2.2.2.2.2.2.2.1 hF) (lw_V q937 q938 q939 q91 q940) ⟨rfl, by decide, by decide, rfl⟩ ⟨Nat.le_of_ble_eq_true rfl, Nat.le_of_ble_eq_true rfl, Nat.le_of_ble_eq_true rfl⟩ rfl hl.1 (st0 := [.int v3, .ref o]) rfl (Nat.le_of_ble_eq_true rfl) dX5_kin_9 hf) (fun E9 ce9 q9 h9 H locs hx9 => False.elim hx9) (fun v9 h9 H locs hv9 hH hB => ?_)
  obtain ⟨r2, rfl, hF, rfl⟩ := hv9
  refine zq_astore (r := r2) (lv' := [(5, va_rf r2), (4, va_rf r1), (0, .ref o), (1, .int v1), (2, .int v2), (3, .int v3)]) hx hb rfl dX5_kin_12 hl (by decide) (by cases r1 <;> rfl) (fun ls hl => ?_)
  refine zq_aload hx hb dX5_kin_14 (lv_at hl 1 rfl) ?_
  refine zq_ifnull (tgt := 44) hx hb dX5_kin_16 (by decide) (fun cd => ?_) (fun b3 eb3 => ?_)
  · have hF := hF.1 cd
    exact wc_X5_kin_44 X hN hT h C S v2 r1 r2 hF _ _ _ _ _ hB (lv_sub hl [2, 4, 1, 0] rfl) hH
  · have hF := hF.2 b3 eb3
    refine zq_aload hx hb dX5_kin_19 (lv_at hl 0 rfl) ?_
    refine zq_ifnull (tgt := 44) hx hb dX5_kin_21 (by decide) (fun cd => ?_) (fun b4 eb4 => ?_)
    · have hF := hF.1 cd
      exact wc_X5_kin_44 X hN hT h C S v2 r1 r2 hF _ _ _ _ _ hB (lv_sub hl [2, 4, 1, 0] rfl) hH
    · have hF := hF.2 b4 eb4
      refine zq_aload hx hb dX5_kin_24 (lv_at hl 1 rfl) ?_
      refine zq_aload hx hb dX5_kin_26 (lv_at hl 0 rfl) ?_
      refine lv_acmp_eq (rx := r1) (ry := r2) (tgt := 44) hx hb dX5_kin_28 (by decide) (fun cd => ?_) (fun cd => ?_)
      · have hF := hF.1 cd
        exact wc_X5_kin_44 X hN hT h C S v2 r1 r2 hF _ _ _ _ _ hB (lv_sub hl [2, 4, 1, 0] rfl) hH
      · have hF := hF.2 cd
        refine lv_iload_n hx hb dX5_kin_31 rfl (lv_at hl 4 rfl) ?_
        refine lv_if_eq (tgt := 40) hx hb dX5_kin_32 (by decide) (fun cd => ?_) (fun cd => ?_)
        · have hF := hF.1 cd
          exact wc_X5_kin_40 X hN hT h C S v2 r1 r2 hF _ _ _ _ _ hB (lv_sub hl [2, 4, 1, 0] rfl) hH
        · have hF := hF.2 cd
          refine lv_iload_n hx hb dX5_kin_35 rfl (lv_at hl 4 rfl) ?_
          refine lv_iconst (v := 1) hx hb dX5_kin_36 (by decide) ?_
          refine lv_icmp_ne (tgt := 44) hx hb dX5_kin_37 (by decide) (fun cd => ?_) (fun cd => ?_)
          · have hF := hF.1 cd
            exact wc_X5_kin_44 X hN hT h C S v2 r1 r2 hF _ _ _ _ _ hB (lv_sub hl [2, 4, 1, 0] rfl) hH
          · have hF := hF.2 cd
            exact wc_X5_kin_40 X hN hT h C S v2 r1 r2 hF _ _ _ _ _ hB (lv_sub hl [2, 4, 1, 0] rfl) hH
set_option maxHeartbeats 4000000 in
set_option maxRecDepth 100000 in
theorem wc_X5_paper_35 {p : Program} {l : Launch} {e : Env} {s : State} {m : MethodId} {args : Array Value} {below : List Frame} {meth : Method} {c : Code} {D : va_G} {cA : Nat → ClassId} {P : Nat → Prop} {G : Nat × Nat × Nat} {C S : Nat} {o : Nat} {Q : Int32 → ZH → Prop} {XE : String → Nat → ZH → Prop} (X : zc_Cx p l s m args meth c cX5_paper 4 (some .int) "ChurchyardBook$Book" D cA P G) (hN : meth.name = "paper") (hT : c.exceptionTable.toList = tableOf []) :
    ∀ (h : ZH) (bc bs : Nat) (v2 : Int32) (q3 : Option Nat) (t0 : Int32), fc_X5_paper_35 G o Q XE h bc bs v2 q3 t0 → ∀ (H : Heap) (locs : List Loc) (ls : Array Slot) (cells slots : Nat), cells + bc ≤ C ∧ slots + bs ≤ S → lv_has ls 4 [(0, .ref o), (2, .int v2), (3, va_rf q3)] → zc_H D cA P h s H locs → W p l e (zc_Ro 5 C S) s m args below meth c H locs cells slots (vx_MQ below (zc_Q D cA P (fun v h' => ∃ z : Int32, v = some (.int z) ∧ Q z h')) (zc_X D cA P XE) args s C S P) (F0 m 35 ls [.int t0]) := by
  have hx := X.1
  have hb := X.2.1
  have hown := X.2.2.2.1
  have hts := X.2.2.2.2.1
  intro h bc bs v2 q3 t0 hF
  intro H locs ls cells slots hB hl hH
  unfold fc_X5_paper_35 at hF
  refine lv_iconst (v := (-1)) hx hb dX5_paper_35 (by decide) ?_
  obtain ⟨c1, s2, hc1, hs1, hF⟩ := hF
  refine zc_call (c1 := c1) (s1 := s2) (rest := []) hH hB hc1 hs1 (fun hf => zc_rSN X hH (As := [.int t0, .int (-1)]) (host := "ChurchyardBook") (wc_X1_need X.2.2.2.2.2.2.2.1 hF) (lw_meth q265) (by decide +kernel) q87 q264 ⟨by decide, by decide, rfl⟩ ⟨Nat.le_of_ble_eq_true rfl, Nat.le_of_ble_eq_true rfl, Nat.le_of_ble_eq_true rfl⟩ rfl hl.1 (st0 := [.int (-1), .int t0]) rfl (Nat.le_of_ble_eq_true rfl) dX5_paper_36 hf) (fun E9 ce9 q3 h4 H locs hx9 hH hB hce hcv hcl => ?_) (fun v9 h9 H locs hv9 hH hB => ?_)
  · exact zc_out X hH hB (by rw [hT]; intro x hx9; cases hx9) hce hcv hcl hx9
  obtain ⟨rfl, hF, rfl⟩ := hv9
  refine zq_aload_n hx hb dX5_paper_39 rfl (lv_at hl 2 rfl) ?_
  refine lv_aload_n hx hb dX5_paper_40 rfl (lv_at hl 0 rfl) ?_
  refine lv_iload_n hx hb dX5_paper_41 rfl (lv_at hl 1 rfl) ?_
  obtain ⟨hc, hF⟩ := hF
  refine zc_call (c1 := 0) (s1 := 0) (rest := [va_rf q3]) hH hB (Nat.zero_le _) (Nat.zero_le _) (fun hf => zc_rV X hH hc (by decide) rfl (As := [.int v2]) (wc_X5_person X.2.2.2.2.2.2.2.1 hF) (lw_V q937 q938 q939 q91 q940) ⟨rfl, by decide, by decide, rfl⟩ ⟨Nat.le_of_ble_eq_true rfl, Nat.le_of_ble_eq_true rfl, Nat.le_of_ble_eq_true rfl⟩ rfl hl.1 (st0 := [.int v2, .ref o, va_rf q3]) rfl (by simp only [List.map_cons, List.map_nil, List.sum_cons, List.sum_nil, zc_k1]; exact Nat.le_of_ble_eq_true rfl) dX5_paper_42 hf) (fun E9 ce9 q9 h9 H locs hx9 => False.elim hx9) (fun v9 h9 H locs hv9 hH hB => ?_)
  obtain ⟨r5, rfl, hF, rfl⟩ := hv9
  obtain ⟨b6, eb6, hF⟩ := hF
  refine zq_st (st2 := [va_rf r5, .ref b6]) (by rw [eb6]; first | done | rfl) ?_
  obtain ⟨hc, hF⟩ := hF
  refine zc_putr X hH hc 7 707 ("ChurchyardBook$Person", "heir", "LChurchyardBook$Person;", false) (by decide +kernel) rfl q882 (Or.inl rfl) (x := r5) rfl (ty := (.object "ChurchyardBook$Person")) (by decide +kernel) rfl (Or.inl rfl) dX5_paper_45 (fun h7 H locs eh7 hH => ?_)
  have hF := hF h7 eh7
  refine lv_iconst (v := 0) hx hb dX5_paper_48 (by decide) ?_
  exact zc_iret X hH hB rfl rfl ⟨_, rfl, hF⟩ dX5_paper_49
set_option maxHeartbeats 4000000 in
set_option maxRecDepth 100000 in
theorem wc_X5_paper_34 {p : Program} {l : Launch} {e : Env} {s : State} {m : MethodId} {args : Array Value} {below : List Frame} {meth : Method} {c : Code} {D : va_G} {cA : Nat → ClassId} {P : Nat → Prop} {G : Nat × Nat × Nat} {C S : Nat} {o : Nat} {Q : Int32 → ZH → Prop} {XE : String → Nat → ZH → Prop} (X : zc_Cx p l s m args meth c cX5_paper 4 (some .int) "ChurchyardBook$Book" D cA P G) (hN : meth.name = "paper") (hT : c.exceptionTable.toList = tableOf []) :
    ∀ (h : ZH) (bc bs : Nat) (v2 : Int32) (q3 : Option Nat), fc_X5_paper_34 G o Q XE h bc bs v2 q3 → ∀ (H : Heap) (locs : List Loc) (ls : Array Slot) (cells slots : Nat), cells + bc ≤ C ∧ slots + bs ≤ S → lv_has ls 4 [(0, .ref o), (2, .int v2), (3, va_rf q3)] → zc_H D cA P h s H locs → W p l e (zc_Ro 5 C S) s m args below meth c H locs cells slots (vx_MQ below (zc_Q D cA P (fun v h' => ∃ z : Int32, v = some (.int z) ∧ Q z h')) (zc_X D cA P XE) args s C S P) (F0 m 34 ls []) := by
  have hx := X.1
  have hb := X.2.1
  have hown := X.2.2.2.1
  have hts := X.2.2.2.2.1
  intro h bc bs v2 q3 hF
  intro H locs ls cells slots hB hl hH
  unfold fc_X5_paper_34 at hF
  refine lv_iconst (v := 0) hx hb dX5_paper_34 (by decide) ?_
  exact wc_X5_paper_35 X hN hT h bc bs v2 q3 0 hF _ _ _ _ _ hB (lv_sub hl [0, 1, 2] rfl) hH
set_option maxHeartbeats 4000000 in
set_option maxRecDepth 100000 in
theorem wc_X5_paper {l : Launch} {D : va_G} {cA : Nat → ClassId} {P : Nat → Prop} {G : Nat × Nat × Nat} {o : Nat} {Q : Int32 → ZH → Prop} {XE : String → Nat → ZH → Prop} {h : ZH} {C S : Nat} {v1 : Int32} {v2 : Int32} (hl9 : l.stackTraces = false) (hF : fc_X5_paper G o Q XE h C S v1 v2) :
    zc_M l yX5_paper (ws_ yX5_paper cX5_paper 4 (some .int)) 5 D cA P G [.ref o, .int v1, .int v2] h C S (fun v h' => ∃ z : Int32, v = some (.int z) ∧ Q z h') XE := by
  refine zc_ofF hl9 rfl (by decide +kernel) (Nat.le_of_ble_eq_true rfl) ?_
  intro p e s m args below meth c H locs ls X hN hT hH hl
  have hx := X.1
  have hb := X.2.1
  have hown := X.2.2.2.1
  have hts := X.2.2.2.2.1
  have hl : lv_has ls 4 [(0, .ref o), (1, .int v1), (2, .int v2)] := hl
  have hB : 0 + C ≤ C ∧ 0 + S ≤ S := ⟨by omega, by omega⟩
  unfold fc_X5_paper at hF
  refine lv_aload_n hx hb dX5_paper_0 rfl (lv_at hl 0 rfl) ?_
  refine lv_iload_n hx hb dX5_paper_1 rfl (lv_at hl 1 rfl) ?_
  obtain ⟨hc, hF⟩ := hF
  refine zc_call (c1 := 0) (s1 := 0) (rest := []) hH hB (Nat.zero_le _) (Nat.zero_le _) (fun hf => zc_rV X hH hc (by decide) rfl (As := [.int v1]) (wc_X5_person X.2.2.2.2.2.2.2.1 hF) (lw_V q937 q938 q939 q91 q940) ⟨rfl, by decide, by decide, rfl⟩ ⟨Nat.le_of_ble_eq_true rfl, Nat.le_of_ble_eq_true rfl, Nat.le_of_ble_eq_true rfl⟩ rfl hl.1 (st0 := [.int v1, .ref o]) rfl (Nat.le_of_ble_eq_true rfl) dX5_paper_2 hf) (fun E9 ce9 q9 h9 H locs hx9 => False.elim hx9) (fun v9 h9 H locs hv9 hH hB => ?_)
  obtain ⟨r1, rfl, hF, rfl⟩ := hv9
  refine zq_astore_n (r := r1) (lv' := [(3, va_rf r1), (0, .ref o), (1, .int v1), (2, .int v2)]) hx hb rfl dX5_paper_5 rfl hl (by decide) rfl (fun ls hl => ?_)
  refine zq_aload_n hx hb dX5_paper_6 rfl (lv_at hl 0 rfl) ?_
  refine zq_ifnull (tgt := 34) hx hb dX5_paper_7 (by decide) (fun cd => ?_) (fun b2 eb2 => ?_)
  · have hF := hF.1 cd
    exact wc_X5_paper_34 X hN hT h C S v2 r1 hF _ _ _ _ _ hB (lv_sub hl [1, 3, 0] rfl) hH
  · have hF := hF.2 b2 eb2
    refine lv_aload_n hx hb dX5_paper_10 rfl (lv_at hl 1 rfl) ?_
    refine lv_iload_n hx hb dX5_paper_11 rfl (lv_at hl 3 rfl) ?_
    obtain ⟨hc, hF⟩ := hF
    refine zc_call (c1 := 0) (s1 := 0) (rest := []) hH hB (Nat.zero_le _) (Nat.zero_le _) (fun hf => zc_rV X hH hc (by decide) rfl (As := [.int v2]) (wc_X5_person X.2.2.2.2.2.2.2.1 hF) (lw_V q937 q938 q939 q91 q940) ⟨rfl, by decide, by decide, rfl⟩ ⟨Nat.le_of_ble_eq_true rfl, Nat.le_of_ble_eq_true rfl, Nat.le_of_ble_eq_true rfl⟩ rfl hl.1 (st0 := [.int v2, .ref o]) rfl (Nat.le_of_ble_eq_true rfl) dX5_paper_12 hf) (fun E9 ce9 q9 h9 H locs hx9 => False.elim hx9) (fun v9 h9 H locs hv9 hH hB => ?_)
    obtain ⟨r3, rfl, hF, rfl⟩ := hv9
    refine zq_ifnull (tgt := 34) hx hb dX5_paper_15 (by decide) (fun cd => ?_) (fun b4 eb4 => ?_)
    · have hF := hF.1 cd
      exact wc_X5_paper_34 X hN hT h C S v2 r1 hF _ _ _ _ _ hB (lv_sub hl [1, 3, 0] rfl) hH
    · have hF := hF.2 b4 eb4
      refine lv_iload_n hx hb dX5_paper_18 rfl (lv_at hl 2 rfl) ?_
      refine lv_iload_n hx hb dX5_paper_19 rfl (lv_at hl 3 rfl) ?_
      refine lv_icmp_eq (tgt := 34) hx hb dX5_paper_20 (by decide) (fun cd => ?_) (fun cd => ?_)
      · have hF := hF.1 cd
        exact wc_X5_paper_34 X hN hT h C S v2 r1 hF _ _ _ _ _ hB (lv_sub hl [1, 3, 0] rfl) hH
      · have hF := hF.2 cd
        refine zq_aload_n hx hb dX5_paper_23 rfl (lv_at hl 0 rfl) ?_
        refine zq_st (st2 := [.ref b2]) (by rw [eb2]; first | done | rfl) ?_
        obtain ⟨hc, hF⟩ := hF
        refine zc_getf X hH hc 2 702 ("ChurchyardBook$Person", "isDead", "Z", false) (by decide +kernel) (v := .int (zi h 702 b2)) rfl q868 (Or.inl rfl) dX5_paper_24 ?_
        refine lv_if_ne (tgt := 34) hx hb dX5_paper_27 (by decide) (fun cd => ?_) (fun cd => ?_)
        · have hF := hF.1 cd
          exact wc_X5_paper_34 X hN hT h C S v2 r1 hF _ _ _ _ _ hB (lv_sub hl [1, 3, 0] rfl) hH
        · have hF := hF.2 cd
          refine lv_iconst (v := 1) hx hb dX5_paper_30 (by decide) ?_
          refine lv_goto (tgt := 35) hx hb dX5_paper_31 (by decide) ?_
          exact wc_X5_paper_35 X hN hT h C S v2 r1 1 hF _ _ _ _ _ hB (lv_sub hl [1, 3, 0] rfl) hH
set_option maxHeartbeats 4000000 in
set_option maxRecDepth 100000 in
theorem wc_X5_grave_15 {p : Program} {l : Launch} {e : Env} {s : State} {m : MethodId} {args : Array Value} {below : List Frame} {meth : Method} {c : Code} {D : va_G} {cA : Nat → ClassId} {P : Nat → Prop} {G : Nat × Nat × Nat} {C S : Nat} {o : Nat} {Q : Option Nat → Prop} {h0 : ZH} (X : zc_Cx p l s m args meth c cX5_grave 2 (some (.object "ChurchyardBook$Grave")) "ChurchyardBook$Book" D cA P G) (hN : meth.name = "grave") (hT : c.exceptionTable.toList = tableOf []) :
    ∀ (h : ZH), fc_X5_grave_15 G o Q h → ∀ (H : Heap) (locs : List Loc) (ls : Array Slot) (cells slots : Nat), cells + 0 ≤ C ∧ slots + 0 ≤ S → h0 = h → lv_has ls 2 [(0, .ref o)] → zc_H D cA P h s H locs → W p l e (zc_Ro 4 C S) s m args below meth c H locs cells slots (vx_MQ below (zc_Q D cA P (fun v h' => ∃ z : Option Nat, v = some (va_rf z) ∧ Q z ∧ h0 = h')) (zc_X D cA P zc_no) args s C S P) (F0 m 15 ls []) := by
  have hx := X.1
  have hb := X.2.1
  have hown := X.2.2.2.1
  have hts := X.2.2.2.2.1
  intro h hF
  intro H locs ls cells slots hB eh hl hH
  unfold fc_X5_grave_15 at hF
  refine lv_null hx hb dX5_grave_15 ?_
  refine lv_goto (tgt := 30) hx hb dX5_grave_16 (by decide) ?_
  exact zc_aret X hH hB rfl (by first | exact Or.inl ⟨_, rfl⟩ | exact Or.inr ⟨_, rfl⟩) (r := none) rfl ⟨_, rfl, hF, eh⟩ dX5_grave_30
set_option maxHeartbeats 4000000 in
set_option maxRecDepth 100000 in
theorem wc_X5_grave {l : Launch} {D : va_G} {cA : Nat → ClassId} {P : Nat → Prop} {G : Nat × Nat × Nat} {o : Nat} {Q : Option Nat → Prop} {h : ZH} {C S : Nat} {v1 : Int32} (hl9 : l.stackTraces = false) (hF : fc_X5_grave G o Q h v1) :
    zc_M l yX5_grave (ws_ yX5_grave cX5_grave 2 (some (.object "ChurchyardBook$Grave"))) 4 D cA P G [.ref o, .int v1] h C S (fun v h' => ∃ z : Option Nat, v = some (va_rf z) ∧ Q z ∧ h = h') zc_no := by
  refine zc_ofF hl9 rfl (by decide +kernel) (Nat.le_of_ble_eq_true rfl) ?_
  intro p e s m args below meth c H locs ls X hN hT hH hl
  have hx := X.1
  have hb := X.2.1
  have hown := X.2.2.2.1
  have hts := X.2.2.2.2.1
  have hl : lv_has ls 2 [(0, .ref o), (1, .int v1)] := hl
  have hB : 0 + 0 ≤ C ∧ 0 + 0 ≤ S := ⟨by omega, by omega⟩
  have eh : h = h := rfl
  unfold fc_X5_grave at hF
  refine lv_iload_n hx hb dX5_grave_0 rfl (lv_at hl 1 rfl) ?_
  refine lv_if_lt (tgt := 15) hx hb dX5_grave_1 (by decide) (fun cd => ?_) (fun cd => ?_)
  · have hF := hF.1 cd
    exact wc_X5_grave_15 X hN hT h hF _ _ _ _ _ hB eh (lv_sub hl [0] rfl) hH
  · have hF := hF.2 cd
    refine lv_iload_n hx hb dX5_grave_4 rfl (lv_at hl 1 rfl) ?_
    refine lv_aload_n hx hb dX5_grave_5 rfl (lv_at hl 0 rfl) ?_
    obtain ⟨hc, hF⟩ := hF
    refine zc_getf X hH hc 1 201 ("ChurchyardBook$Book", "graves", "Ljava/util/ArrayList;", true) (by decide +kernel) (v := va_rf (zr h 201 o)) rfl q190 (Or.inl rfl) dX5_grave_6 ?_
    obtain ⟨b1, eb1, hF⟩ := hF
    refine zq_st (st2 := [.ref b1, .int v1]) (by rw [eb1]; first | done | rfl) ?_
    obtain ⟨hc, hF⟩ := hF
    refine zc_call (c1 := 0) (s1 := 0) (rest := [.int v1]) hH hB (Nat.zero_le _) (Nat.zero_le _) (fun hf => zc_rV X hH hc (by decide) rfl (As := []) (wc_J2_size X.2.2.2.2.2.2.2.1 hF) (lw_V q349 q350 q351 q94 q352) ⟨rfl, by decide, by decide, rfl⟩ ⟨Nat.le_of_ble_eq_true rfl, Nat.le_of_ble_eq_true rfl, Nat.le_of_ble_eq_true rfl⟩ rfl hl.1 (st0 := [.ref b1, .int v1]) rfl (Nat.le_of_ble_eq_true rfl) dX5_grave_9 hf) (fun E9 ce9 q9 h9 H locs hx9 => False.elim hx9) (fun v9 h9 H locs hv9 hH hB => ?_)
    obtain ⟨z2, rfl, hF, rfl⟩ := hv9
    refine lv_icmp_lt (tgt := 19) hx hb dX5_grave_12 (by decide) (fun cd => ?_) (fun cd => ?_)
    · have hF := hF.1 cd
      refine lv_aload_n hx hb dX5_grave_19 rfl (lv_at hl 0 rfl) ?_
      obtain ⟨hc, hF⟩ := hF
      refine zc_getf X hH hc 1 201 ("ChurchyardBook$Book", "graves", "Ljava/util/ArrayList;", true) (by decide +kernel) (v := va_rf (zr h 201 o)) rfl q190 (Or.inl rfl) dX5_grave_20 ?_
      refine lv_iload_n hx hb dX5_grave_23 rfl (lv_at hl 1 rfl) ?_
      refine zq_st (st2 := [.int v1, .ref b1]) (by rw [eb1]; first | done | rfl) ?_
      obtain ⟨hc, hF⟩ := hF
      refine zc_call (c1 := 0) (s1 := 0) (rest := []) hH hB (Nat.zero_le _) (Nat.zero_le _) (fun hf => zc_rV X hH hc (by decide) rfl (As := [.int v1]) (wc_J2_get X.2.2.2.2.2.2.2.1 hF) (lw_V q475 q476 q477 q94 q478) ⟨rfl, by decide, by decide, rfl⟩ ⟨Nat.le_of_ble_eq_true rfl, Nat.le_of_ble_eq_true rfl, Nat.le_of_ble_eq_true rfl⟩ rfl hl.1 (st0 := [.int v1, .ref b1]) rfl (Nat.le_of_ble_eq_true rfl) dX5_grave_24 hf) (fun E9 ce9 q9 h9 H locs hx9 => False.elim hx9) (fun v9 h9 H locs hv9 hH hB => ?_)
      obtain ⟨r3, rfl, hF, rfl⟩ := hv9
      obtain ⟨hR, hF⟩ := hF
      refine zc_castY X hH (r := r3) [8, 9, 10, 11, 12, 13] "ChurchyardBook$Grave" hR (by decide) (by decide +kernel) q531 dX5_grave_27 ?_
      exact zc_aret X hH hB rfl (by first | exact Or.inl ⟨_, rfl⟩ | exact Or.inr ⟨_, rfl⟩) (r := r3) rfl ⟨_, rfl, hF, eh⟩ dX5_grave_30
    · have hF := hF.2 cd
      exact wc_X5_grave_15 X hN hT h hF _ _ _ _ _ hB eh (lv_sub hl [0] rfl) hH
set_option maxHeartbeats 4000000 in
set_option maxRecDepth 100000 in
theorem wc_X9_needsHolder {l : Launch} {D : va_G} {cA : Nat → ClassId} {P : Nat → Prop} {G : Nat × Nat × Nat} {o : Nat} {Q : Int32 → Prop} {h : ZH} {C S : Nat} (hl9 : l.stackTraces = false) (hF : fc_X9_needsHolder G o Q h) :
    zc_M l yX9_needsHolder (ws_ yX9_needsHolder cX9_needsHolder 1 (some .boolean)) 1 D cA P G [.ref o] h C S (fun v h' => ∃ z : Int32, v = some (.int z) ∧ Q z ∧ h = h') zc_no := by
  refine zc_ofF hl9 rfl (by decide +kernel) (Nat.le_of_ble_eq_true rfl) ?_
  intro p e s m args below meth c H locs ls X hN hT hH hl
  have hx := X.1
  have hb := X.2.1
  have hown := X.2.2.2.1
  have hts := X.2.2.2.2.1
  have hl : lv_has ls 1 [(0, .ref o)] := hl
  have hB : 0 + 0 ≤ C ∧ 0 + 0 ≤ S := ⟨by omega, by omega⟩
  have eh : h = h := rfl
  unfold fc_X9_needsHolder at hF
  refine lv_iconst (v := 1) hx hb dX9_needsHolder_0 (by decide) ?_
  exact zc_iret X hH hB rfl rfl ⟨_, rfl, hF, eh⟩ dX9_needsHolder_1
set_option maxHeartbeats 4000000 in
set_option maxRecDepth 100000 in
theorem wc_X14_needsHolder {l : Launch} {D : va_G} {cA : Nat → ClassId} {P : Nat → Prop} {G : Nat × Nat × Nat} {o : Nat} {Q : Int32 → Prop} {h : ZH} {C S : Nat} (hl9 : l.stackTraces = false) (hF : fc_X14_needsHolder G o Q h) :
    zc_M l yX14_needsHolder (ws_ yX14_needsHolder cX14_needsHolder 1 (some .boolean)) 1 D cA P G [.ref o] h C S (fun v h' => ∃ z : Int32, v = some (.int z) ∧ Q z ∧ h = h') zc_no := by
  refine zc_ofF hl9 rfl (by decide +kernel) (Nat.le_of_ble_eq_true rfl) ?_
  intro p e s m args below meth c H locs ls X hN hT hH hl
  have hx := X.1
  have hb := X.2.1
  have hown := X.2.2.2.1
  have hts := X.2.2.2.2.1
  have hl : lv_has ls 1 [(0, .ref o)] := hl
  have hB : 0 + 0 ≤ C ∧ 0 + 0 ≤ S := ⟨by omega, by omega⟩
  have eh : h = h := rfl
  unfold fc_X14_needsHolder at hF
  refine lv_iconst (v := 0) hx hb dX14_needsHolder_0 (by decide) ?_
  exact zc_iret X hH hB rfl rfl ⟨_, rfl, hF, eh⟩ dX14_needsHolder_1
set_option maxHeartbeats 1000000 in
theorem rv_needsHolder_3 {p : Program} {l : Launch} {e : Env} {R : Room} {s : State} {m : MethodId} {args : Array Value} {below : List Frame} {meth : Method} {c : Code} {H : Heap} {locs : List Loc} {cells slots : Nat} {cc : ByteArray} {nL pc : Nat} {ret : Option FieldType} {own : String} {ls : Array Slot} {rest : List Value} {D : va_G} {cA : Nat → ClassId} {P : Nat → Prop} {G : Nat × Nat × Nat} {h : ZH} {C S a idx : Nat} {Q : Int32 → Prop} (X : zc_Cx p l s m args meth c cc nL ret own D cA P G) (hH : zc_H D cA P h s H locs) (hlk : Cond.methodLink own idx ⟨"ChurchyardBook$Grave", "needsHolder", "()Z"⟩ ∈ lw_all) (hF : fv_needsHolder_3 G a Q h) (hR : zc_rm R 1 11) (hsize : ls.size = nL) {st0 : List Value} (hst : st0 = ([] : List Value).reverse ++ .ref a :: rest) (hcat : (rest.map fun v => v.category).sum ≤ 8) (hdg : decode cc pc = .ok (.invokevirtual idx, 3)) (hf : cells + C ≤ R.cells ∧ slots + S ≤ R.slots) :
    vx_Run p l e R s m args below meth c H locs cells slots C S (F0 m pc ls st0) rest (zc_Q D cA P (fun v h' => ∃ z : Int32, v = some (.int z) ∧ Q z ∧ h = h') (Value.ref a :: []).toArray) (zc_X D cA P zc_no) P := by
  unfold fv_needsHolder_3 at hF
  have hR9 := hR
  obtain ⟨hc, hF⟩ := hF
  simp only [List.mem_cons, List.not_mem_nil, or_false] at hc
  rcases hc with hc | hc | hc | hc | hc | hc
  · have hF := hF.1 (by rw [hc]; decide)
    exact zc_rU X hH hc (by decide) rfl (owner := "ChurchyardBook$Grave") (x := ⟨"ChurchyardBook$Grave", "needsHolder", "()Z"⟩) (As := []) (wc_X9_needsHolder X.2.2.2.2.2.2.2.1 hF) (lw_meth q968) (X.2.2.2.2.1 _ hlk) (X.2.2.2.2.1 _ q959) (zc_declC X q958 q968) (X.2.2.2.2.1 _ q966) q958 q114 ⟨by decide, by decide, rfl⟩ (zc_rm_le hR9 (by decide) (by decide)) rfl hsize hst hcat hdg hf
  · have hF := hF.1 (by rw [hc]; decide)
    exact zc_rU X hH hc (by decide) rfl (owner := "ChurchyardBook$Grave") (x := ⟨"ChurchyardBook$Grave", "needsHolder", "()Z"⟩) (As := []) (wc_X9_needsHolder X.2.2.2.2.2.2.2.1 hF) (lw_meth q968) (X.2.2.2.2.1 _ hlk) (X.2.2.2.2.1 _ q959) (zc_declC X q958 q968) (X.2.2.2.2.1 _ q961) q958 q114 ⟨by decide, by decide, rfl⟩ (zc_rm_le hR9 (by decide) (by decide)) rfl hsize hst hcat hdg hf
  · have hF := hF.1 (by rw [hc]; decide)
    exact zc_rU X hH hc (by decide) rfl (owner := "ChurchyardBook$Grave") (x := ⟨"ChurchyardBook$Grave", "needsHolder", "()Z"⟩) (As := []) (wc_X9_needsHolder X.2.2.2.2.2.2.2.1 hF) (lw_meth q968) (X.2.2.2.2.1 _ hlk) (X.2.2.2.2.1 _ q959) (zc_declC X q958 q968) (X.2.2.2.2.1 _ q962) q958 q114 ⟨by decide, by decide, rfl⟩ (zc_rm_le hR9 (by decide) (by decide)) rfl hsize hst hcat hdg hf
  · have hF := hF.1 (by rw [hc]; decide)
    exact zc_rU X hH hc (by decide) rfl (owner := "ChurchyardBook$Grave") (x := ⟨"ChurchyardBook$Grave", "needsHolder", "()Z"⟩) (As := []) (wc_X9_needsHolder X.2.2.2.2.2.2.2.1 hF) (lw_meth q968) (X.2.2.2.2.1 _ hlk) (X.2.2.2.2.1 _ q959) (zc_declC X q958 q968) (X.2.2.2.2.1 _ q967) q958 q114 ⟨by decide, by decide, rfl⟩ (zc_rm_le hR9 (by decide) (by decide)) rfl hsize hst hcat hdg hf
  · have hF := hF.2 (by rw [hc]; decide)
    exact zc_rU X hH hc (by decide) rfl (owner := "ChurchyardBook$Grave") (x := ⟨"ChurchyardBook$Grave", "needsHolder", "()Z"⟩) (As := []) (wc_X14_needsHolder X.2.2.2.2.2.2.2.1 hF) (lw_meth q965) (X.2.2.2.2.1 _ hlk) (X.2.2.2.2.1 _ q959) (zc_declC X q958 q968) (X.2.2.2.2.1 _ q963) q964 q119 ⟨by decide, by decide, rfl⟩ (zc_rm_le hR9 (by decide) (by decide)) rfl hsize hst hcat hdg hf
  · have hF := hF.1 (by rw [hc]; decide)
    exact zc_rU X hH hc (by decide) rfl (owner := "ChurchyardBook$Grave") (x := ⟨"ChurchyardBook$Grave", "needsHolder", "()Z"⟩) (As := []) (wc_X9_needsHolder X.2.2.2.2.2.2.2.1 hF) (lw_meth q968) (X.2.2.2.2.1 _ hlk) (X.2.2.2.2.1 _ q959) (zc_declC X q958 q968) (X.2.2.2.2.1 _ q960) q958 q114 ⟨by decide, by decide, rfl⟩ (zc_rm_le hR9 (by decide) (by decide)) rfl hsize hst hcat hdg hf
set_option maxHeartbeats 4000000 in
set_option maxRecDepth 100000 in
theorem wc_J2_clear_27 {p : Program} {l : Launch} {e : Env} {s : State} {m : MethodId} {args : Array Value} {below : List Frame} {meth : Method} {c : Code} {D : va_G} {cA : Nat → ClassId} {P : Nat → Prop} {G : Nat × Nat × Nat} {C S : Nat} {o : Nat} {Q : ZH → Prop} (X : zc_Cx p l s m args meth c cJ2_clear 4 none "java/util/ArrayList" D cA P G) (hN : meth.name = "clear") (hT : c.exceptionTable.toList = tableOf []) :
    ∀ (n : Nat) (h : ZH) (q1 : Option Nat) (v2 : Int32) (v3 : Int32), fc_J2_clear_27 G o Q n h q1 v2 v3 → ∀ (H : Heap) (locs : List Loc) (ls : Array Slot) (cells slots : Nat), cells + 0 ≤ C ∧ slots + 0 ≤ S → lv_has ls 4 [(0, .ref o), (1, va_rf q1), (2, .int v2), (3, .int v3)] → zc_H D cA P h s H locs → W p l e (zc_Ro 1 C S) s m args below meth c H locs cells slots (vx_MQ below (zc_Q D cA P (fun v h' => v = none ∧ Q h')) (zc_X D cA P zc_no) args s C S P) (F0 m 27 ls []) := by
  have hx := X.1
  have hb := X.2.1
  have hown := X.2.2.2.1
  have hts := X.2.2.2.2.1
  intro n
  induction n with
  | zero =>
    intro h q1 v2 v3 hF
    exact False.elim hF
  | succ n ih =>
    intro h q1 v2 v3 hF
    intro H locs ls cells slots hB hl hH
    unfold fc_J2_clear_27 at hF
    refine lv_iload_n hx hb dJ2_clear_27 rfl (lv_at hl 3 rfl) ?_
    refine lv_iload_n hx hb dJ2_clear_28 rfl (lv_at hl 2 rfl) ?_
    refine lv_icmp_ge (tgt := 42) hx hb dJ2_clear_29 (by decide) (fun cd => ?_) (fun cd => ?_)
    · have hF := hF.1 cd
      exact zc_vret X hH hB rfl ⟨rfl, hF⟩ dJ2_clear_42
    · have hF := hF.2 cd
      refine zq_aload_n hx hb dJ2_clear_32 rfl (lv_at hl 1 rfl) ?_
      refine lv_iload_n hx hb dJ2_clear_33 rfl (lv_at hl 3 rfl) ?_
      refine lv_null hx hb dJ2_clear_34 ?_
      obtain ⟨b1, eb1, hF⟩ := hF
      refine zq_st (st2 := [.null, .int v3, .ref b1]) (by rw [eb1]; first | done | rfl) ?_
      obtain ⟨hc, hF⟩ := hF
      obtain ⟨hI, hF⟩ := hF
      obtain ⟨hR, hF⟩ := hF
      refine zc_aast X hH [22] 2 hc (by decide) (r := none) rfl hI hR dJ2_clear_35 (fun h2 H locs eh2 hH => ?_)
      have hF := hF h2 eh2
      obtain ⟨x3, ex3⟩ : ∃ z : Int32, z = v3 + 1 := ⟨_, rfl⟩
      have hF := hF x3 ex3
      refine lv_iinc (v := x3) (lv' := [(3, .int x3), (0, .ref o), (1, va_rf q1), (2, .int v2)]) hx hb dJ2_clear_36 hl (k := 3) rfl (by rw [ex3]; rfl) (by decide) rfl (fun ls hl => ?_)
      refine lv_goto (tgt := 27) hx hb dJ2_clear_39 (by decide) ?_
      exact ih h2 q1 v2 x3 hF _ _ _ _ _ hB (lv_sub hl [1, 2, 3, 0] rfl) hH
set_option maxHeartbeats 4000000 in
set_option maxRecDepth 100000 in
theorem wc_J2_clear {l : Launch} {D : va_G} {cA : Nat → ClassId} {P : Nat → Prop} {G : Nat × Nat × Nat} {o : Nat} {Q : ZH → Prop} {h : ZH} {C S : Nat} (hl9 : l.stackTraces = false) (hF : fc_J2_clear G o Q h) :
    zc_M l yJ2_clear (ws_ yJ2_clear cJ2_clear 4 none) 1 D cA P G [.ref o] h C S (fun v h' => v = none ∧ Q h') zc_no := by
  refine zc_ofF hl9 rfl (by decide +kernel) (Nat.le_of_ble_eq_true rfl) ?_
  intro p e s m args below meth c H locs ls X hN hT hH hl
  have hx := X.1
  have hb := X.2.1
  have hown := X.2.2.2.1
  have hts := X.2.2.2.2.1
  have hl : lv_has ls 4 [(0, .ref o)] := hl
  have hB : 0 + 0 ≤ C ∧ 0 + 0 ≤ S := ⟨by omega, by omega⟩
  unfold fc_J2_clear at hF
  refine lv_aload_n hx hb dJ2_clear_0 rfl (lv_at hl 0 rfl) ?_
  refine lv_dup hx hb dJ2_clear_1 rfl ?_
  obtain ⟨hc, hF⟩ := hF
  refine zc_getf X hH hc 0 300 ("java/util/AbstractList", "modCount", "I", false) (by decide +kernel) (v := .int (zi h 300 o)) rfl q174 (Or.inr q175) dJ2_clear_2 ?_
  refine lv_iconst (v := 1) hx hb dJ2_clear_5 (by decide) ?_
  refine lv_iadd hx hb dJ2_clear_6 ?_
  obtain ⟨hc, hF⟩ := hF
  refine zc_puti X hH hc 0 300 ("java/util/AbstractList", "modCount", "I", false) (by decide +kernel) rfl q174 (Or.inr q175) (ty := .int) (by decide +kernel) rfl rfl (Or.inl rfl) dJ2_clear_7 (fun h1 H locs eh1 hH => ?_)
  have hF := hF h1 eh1
  refine lv_aload_n hx hb dJ2_clear_10 rfl (lv_at hl 0 rfl) ?_
  obtain ⟨hc, hF⟩ := hF
  refine zc_getf X hH hc 1 301 ("java/util/ArrayList", "elementData", "[Ljava/lang/Object;", false) (by decide +kernel) (v := va_rf (zr h1 301 o)) rfl q171 (Or.inl rfl) dJ2_clear_11 ?_
  refine zq_top (fun r2 er2 => ?_)
  have hF := hF r2 er2
  refine zq_astore_n (r := r2) (lv' := [(1, va_rf r2), (0, .ref o)]) hx hb rfl dJ2_clear_14 rfl hl (by decide) rfl (fun ls hl => ?_)
  refine lv_aload_n hx hb dJ2_clear_15 rfl (lv_at hl 1 rfl) ?_
  obtain ⟨hc, hF⟩ := hF
  refine zc_getf X hH hc 2 302 ("java/util/ArrayList", "size", "I", false) (by decide +kernel) (v := .int (zi h1 302 o)) rfl q172 (Or.inl rfl) dJ2_clear_16 ?_
  refine lv_topi (fun x3 ex3 => ?_)
  have hF := hF x3 ex3
  refine lv_istore_n (lv' := [(2, .int x3), (1, va_rf r2), (0, .ref o)]) hx hb dJ2_clear_19 rfl hl (by decide) (by cases r2 <;> rfl) (fun ls hl => ?_)
  refine lv_aload_n hx hb dJ2_clear_20 rfl (lv_at hl 2 rfl) ?_
  refine lv_iconst (v := 0) hx hb dJ2_clear_21 (by decide) ?_
  refine lv_dup_x1 hx hb dJ2_clear_22 rfl rfl ?_
  obtain ⟨hc, hF⟩ := hF
  refine zc_puti X hH hc 2 302 ("java/util/ArrayList", "size", "I", false) (by decide +kernel) rfl q172 (Or.inl rfl) (ty := .int) (by decide +kernel) rfl rfl (Or.inl rfl) dJ2_clear_23 (fun h4 H locs eh4 hH => ?_)
  have hF := hF h4 eh4
  refine lv_istore_n (lv' := [(3, .int 0), (2, .int x3), (1, va_rf r2), (0, .ref o)]) hx hb dJ2_clear_26 rfl hl (by decide) rfl (fun ls hl => ?_)
  obtain ⟨n9, hF⟩ := hF
  exact wc_J2_clear_27 X hN hT n9 h4 r2 x3 0 hF _ _ _ _ _ hB (lv_sub hl [3, 2, 1, 0] rfl) hH
set_option maxHeartbeats 4000000 in
set_option maxRecDepth 100000 in
theorem wc_X9_hold {l : Launch} {D : va_G} {cA : Nat → ClassId} {P : Nat → Prop} {G : Nat × Nat × Nat} {o : Nat} {Q : ZH → Prop} {h : ZH} {C S : Nat} {q1 : Option Nat} (hl9 : l.stackTraces = false) (hF : fc_X9_hold G o Q h q1) :
    zc_M l yX9_hold (ws_ yX9_hold cX9_hold 2 none) 2 D cA P G [.ref o, va_rf q1] h C S (fun v h' => v = none ∧ Q h') zc_no := by
  refine zc_ofF hl9 rfl (by decide +kernel) (zc_slle (by simp [zc_k1, zc_kI, zc_kR]) (Nat.le_of_ble_eq_true rfl)) ?_
  intro p e s m args below meth c H locs ls X hN hT hH hl
  have hx := X.1
  have hb := X.2.1
  have hown := X.2.2.2.1
  have hts := X.2.2.2.2.1
  have hl : lv_has ls 2 [(0, .ref o), (1, va_rf q1)] := by
    have h9 := hl
    rw [zc_ags _ (by simp [zc_k1, zc_kI, zc_kR]) 0] at h9
    exact h9
  have hB : 0 + 0 ≤ C ∧ 0 + 0 ≤ S := ⟨by omega, by omega⟩
  unfold fc_X9_hold at hF
  refine lv_aload_n hx hb dX9_hold_0 rfl (lv_at hl 0 rfl) ?_
  refine lv_iconst (v := 1) hx hb dX9_hold_1 (by decide) ?_
  obtain ⟨hc, hF⟩ := hF
  refine zc_puti X hH hc 6 606 ("ChurchyardBook$Grave", "state", "I", false) (by decide +kernel) rfl q671 (Or.inl rfl) (ty := .int) (by decide +kernel) rfl rfl (Or.inl rfl) dX9_hold_2 (fun h1 H locs eh1 hH => ?_)
  have hF := hF h1 eh1
  refine lv_aload_n hx hb dX9_hold_5 rfl (lv_at hl 0 rfl) ?_
  refine zq_aload_n hx hb dX9_hold_6 rfl (lv_at hl 1 rfl) ?_
  obtain ⟨hc, hF⟩ := hF
  refine zc_putr X hH hc 7 607 ("ChurchyardBook$Grave", "holder", "LChurchyardBook$Person;", false) (by decide +kernel) rfl q674 (Or.inl rfl) (x := q1) rfl (ty := (.object "ChurchyardBook$Person")) (by decide +kernel) rfl (Or.inl rfl) dX9_hold_7 (fun h2 H locs eh2 hH => ?_)
  have hF := hF h2 eh2
  refine lv_aload_n hx hb dX9_hold_10 rfl (lv_at hl 0 rfl) ?_
  refine lv_null hx hb dX9_hold_11 ?_
  obtain ⟨hc, hF⟩ := hF
  refine zc_putr X hH hc 9 609 ("ChurchyardBook$Grave", "offered", "LChurchyardBook$Person;", false) (by decide +kernel) rfl q680 (Or.inl rfl) (x := none) rfl (ty := (.object "ChurchyardBook$Person")) (by decide +kernel) rfl (Or.inl rfl) dX9_hold_12 (fun h3 H locs eh3 hH => ?_)
  have hF := hF h3 eh3
  refine lv_aload_n hx hb dX9_hold_15 rfl (lv_at hl 0 rfl) ?_
  obtain ⟨hc, hF⟩ := hF
  refine zc_getf X hH hc 11 611 ("ChurchyardBook$Grave", "order", "Ljava/util/ArrayList;", true) (by decide +kernel) (v := va_rf (zr h3 611 o)) rfl q685 (Or.inl rfl) dX9_hold_16 ?_
  obtain ⟨b4, eb4, hF⟩ := hF
  refine zq_st (st2 := [.ref b4]) (by rw [eb4]; first | done | rfl) ?_
  obtain ⟨hc, hF⟩ := hF
  refine zc_call (c1 := 0) (s1 := 0) (rest := []) hH hB (Nat.zero_le _) (Nat.zero_le _) (fun hf => zc_rV X hH hc (by decide) rfl (As := []) (wc_J2_clear X.2.2.2.2.2.2.2.1 hF) (lw_V q979 q980 q981 q94 q982) ⟨rfl, by decide, by decide, rfl⟩ ⟨Nat.le_of_ble_eq_true rfl, Nat.le_of_ble_eq_true rfl, Nat.le_of_ble_eq_true rfl⟩ rfl hl.1 (st0 := [.ref b4]) rfl (Nat.le_of_ble_eq_true rfl) dX9_hold_19 hf) (fun E9 ce9 q9 h9 H locs hx9 => False.elim hx9) (fun v9 h5 H locs hv9 hH hB => ?_)
  obtain ⟨rfl, hF⟩ := hv9
  refine lv_aload_n hx hb dX9_hold_22 rfl (lv_at hl 0 rfl) ?_
  refine lv_null hx hb dX9_hold_23 ?_
  obtain ⟨hc, hF⟩ := hF
  refine zc_putr X hH hc 13 613 ("ChurchyardBook$Grave", "told", "[Z", false) (by decide +kernel) rfl q691 (Or.inl rfl) (x := none) rfl (ty := (.array .boolean)) (by decide +kernel) rfl (Or.inl rfl) dX9_hold_24 (fun h6 H locs eh6 hH => ?_)
  have hF := hF h6 eh6
  exact zc_vret X hH hB rfl ⟨rfl, hF⟩ dX9_hold_27
set_option maxHeartbeats 1000000 in
theorem rv_hold_1 {p : Program} {l : Launch} {e : Env} {R : Room} {s : State} {m : MethodId} {args : Array Value} {below : List Frame} {meth : Method} {c : Code} {H : Heap} {locs : List Loc} {cells slots : Nat} {cc : ByteArray} {nL pc : Nat} {ret : Option FieldType} {own : String} {ls : Array Slot} {rest : List Value} {D : va_G} {cA : Nat → ClassId} {P : Nat → Prop} {G : Nat × Nat × Nat} {h : ZH} {C S a idx : Nat} {Q : ZH → Prop} {q1 : Option Nat} (X : zc_Cx p l s m args meth c cc nL ret own D cA P G) (hH : zc_H D cA P h s H locs) (hlk : Cond.methodLink own idx ⟨"ChurchyardBook$Grave", "hold", "(LChurchyardBook$Person;)V"⟩ ∈ lw_all) (hF : fv_hold_1 G a Q h q1) (hR : zc_rm R 2 11) (hsize : ls.size = nL) {st0 : List Value} (hst : st0 = ([va_rf q1] : List Value).reverse ++ .ref a :: rest) (hcat : (rest.map fun v => v.category).sum ≤ 8) (hdg : decode cc pc = .ok (.invokevirtual idx, 3)) (hf : cells + C ≤ R.cells ∧ slots + S ≤ R.slots) :
    vx_Run p l e R s m args below meth c H locs cells slots C S (F0 m pc ls st0) rest (zc_Q D cA P (fun v h' => v = none ∧ Q h') (Value.ref a :: [va_rf q1]).toArray) (zc_X D cA P zc_no) P := by
  unfold fv_hold_1 at hF
  have hR9 := hR
  obtain ⟨hc, hF⟩ := hF
  simp only [List.mem_cons, List.not_mem_nil, or_false] at hc
  rcases hc with hc | hc | hc | hc | hc | hc
  · have hF := hF (by rw [hc]; decide)
    exact zc_rU X hH hc (by decide) rfl (owner := "ChurchyardBook$Grave") (x := ⟨"ChurchyardBook$Grave", "hold", "(LChurchyardBook$Person;)V"⟩) (As := [va_rf q1]) (wc_X9_hold X.2.2.2.2.2.2.2.1 hF) (lw_meth q978) (X.2.2.2.2.1 _ hlk) (X.2.2.2.2.1 _ q971) (zc_declC X q970 q978) (X.2.2.2.2.1 _ q976) q970 q114 ⟨by decide, by decide, rfl⟩ (zc_rm_le hR9 (by decide) (by decide)) rfl hsize hst hcat hdg hf
  · have hF := hF (by rw [hc]; decide)
    exact zc_rU X hH hc (by decide) rfl (owner := "ChurchyardBook$Grave") (x := ⟨"ChurchyardBook$Grave", "hold", "(LChurchyardBook$Person;)V"⟩) (As := [va_rf q1]) (wc_X9_hold X.2.2.2.2.2.2.2.1 hF) (lw_meth q978) (X.2.2.2.2.1 _ hlk) (X.2.2.2.2.1 _ q971) (zc_declC X q970 q978) (X.2.2.2.2.1 _ q973) q970 q114 ⟨by decide, by decide, rfl⟩ (zc_rm_le hR9 (by decide) (by decide)) rfl hsize hst hcat hdg hf
  · have hF := hF (by rw [hc]; decide)
    exact zc_rU X hH hc (by decide) rfl (owner := "ChurchyardBook$Grave") (x := ⟨"ChurchyardBook$Grave", "hold", "(LChurchyardBook$Person;)V"⟩) (As := [va_rf q1]) (wc_X9_hold X.2.2.2.2.2.2.2.1 hF) (lw_meth q978) (X.2.2.2.2.1 _ hlk) (X.2.2.2.2.1 _ q971) (zc_declC X q970 q978) (X.2.2.2.2.1 _ q974) q970 q114 ⟨by decide, by decide, rfl⟩ (zc_rm_le hR9 (by decide) (by decide)) rfl hsize hst hcat hdg hf
  · have hF := hF (by rw [hc]; decide)
    exact zc_rU X hH hc (by decide) rfl (owner := "ChurchyardBook$Grave") (x := ⟨"ChurchyardBook$Grave", "hold", "(LChurchyardBook$Person;)V"⟩) (As := [va_rf q1]) (wc_X9_hold X.2.2.2.2.2.2.2.1 hF) (lw_meth q978) (X.2.2.2.2.1 _ hlk) (X.2.2.2.2.1 _ q971) (zc_declC X q970 q978) (X.2.2.2.2.1 _ q977) q970 q114 ⟨by decide, by decide, rfl⟩ (zc_rm_le hR9 (by decide) (by decide)) rfl hsize hst hcat hdg hf
  · have hF := hF (by rw [hc]; decide)
    exact zc_rU X hH hc (by decide) rfl (owner := "ChurchyardBook$Grave") (x := ⟨"ChurchyardBook$Grave", "hold", "(LChurchyardBook$Person;)V"⟩) (As := [va_rf q1]) (wc_X9_hold X.2.2.2.2.2.2.2.1 hF) (lw_meth q978) (X.2.2.2.2.1 _ hlk) (X.2.2.2.2.1 _ q971) (zc_declC X q970 q978) (X.2.2.2.2.1 _ q975) q970 q114 ⟨by decide, by decide, rfl⟩ (zc_rm_le hR9 (by decide) (by decide)) rfl hsize hst hcat hdg hf
  · have hF := hF (by rw [hc]; decide)
    exact zc_rU X hH hc (by decide) rfl (owner := "ChurchyardBook$Grave") (x := ⟨"ChurchyardBook$Grave", "hold", "(LChurchyardBook$Person;)V"⟩) (As := [va_rf q1]) (wc_X9_hold X.2.2.2.2.2.2.2.1 hF) (lw_meth q978) (X.2.2.2.2.1 _ hlk) (X.2.2.2.2.1 _ q971) (zc_declC X q970 q978) (X.2.2.2.2.1 _ q972) q970 q114 ⟨by decide, by decide, rfl⟩ (zc_rm_le hR9 (by decide) (by decide)) rfl hsize hst hcat hdg hf
set_option maxHeartbeats 4000000 in
set_option maxRecDepth 100000 in
theorem wc_X9_yearly {l : Launch} {D : va_G} {cA : Nat → ClassId} {P : Nat → Prop} {G : Nat × Nat × Nat} {o : Nat} {Q : Int32 → Prop} {h : ZH} {C S : Nat} (hl9 : l.stackTraces = false) (hF : fc_X9_yearly G o Q h) :
    zc_M l yX9_yearly (ws_ yX9_yearly cX9_yearly 1 (some .int)) 1 D cA P G [.ref o] h C S (fun v h' => ∃ z : Int32, v = some (.int z) ∧ Q z ∧ h = h') zc_no := by
  refine zc_ofF hl9 rfl (by decide +kernel) (Nat.le_of_ble_eq_true rfl) ?_
  intro p e s m args below meth c H locs ls X hN hT hH hl
  have hx := X.1
  have hb := X.2.1
  have hown := X.2.2.2.1
  have hts := X.2.2.2.2.1
  have hl : lv_has ls 1 [(0, .ref o)] := hl
  have hB : 0 + 0 ≤ C ∧ 0 + 0 ≤ S := ⟨by omega, by omega⟩
  have eh : h = h := rfl
  unfold fc_X9_yearly at hF
  refine lv_bipush (v := 10) hx hb dX9_yearly_0 (by decide) ?_
  refine lv_aload_n hx hb dX9_yearly_2 rfl (lv_at hl 0 rfl) ?_
  obtain ⟨hc, hF⟩ := hF
  refine zc_getf X hH hc 4 604 ("ChurchyardBook$Grave", "wide", "I", true) (by decide +kernel) (v := .int (zi h 604 o)) rfl q666 (Or.inl rfl) dX9_yearly_3 ?_
  refine lv_imul hx hb dX9_yearly_6 ?_
  exact zc_iret X hH hB rfl rfl ⟨_, rfl, hF, eh⟩ dX9_yearly_7
set_option maxHeartbeats 4000000 in
set_option maxRecDepth 100000 in
theorem wc_X12_yearly {l : Launch} {D : va_G} {cA : Nat → ClassId} {P : Nat → Prop} {G : Nat × Nat × Nat} {o : Nat} {Q : Int32 → Prop} {h : ZH} {C S : Nat} (hl9 : l.stackTraces = false) (hF : fc_X12_yearly G o Q h) :
    zc_M l yX12_yearly (ws_ yX12_yearly cX12_yearly 1 (some .int)) 2 D cA P G [.ref o] h C S (fun v h' => ∃ z : Int32, v = some (.int z) ∧ Q z ∧ h = h') zc_no := by
  refine zc_ofF hl9 rfl (by decide +kernel) (Nat.le_of_ble_eq_true rfl) ?_
  intro p e s m args below meth c H locs ls X hN hT hH hl
  have hx := X.1
  have hb := X.2.1
  have hown := X.2.2.2.1
  have hts := X.2.2.2.2.1
  have hl : lv_has ls 1 [(0, .ref o)] := hl
  have hB : 0 + 0 ≤ C ∧ 0 + 0 ≤ S := ⟨by omega, by omega⟩
  have eh : h = h := rfl
  unfold fc_X12_yearly at hF
  refine lv_aload_n hx hb dX12_yearly_0 rfl (lv_at hl 0 rfl) ?_
  obtain ⟨hc, hF⟩ := hF
  obtain ⟨hc9, hc8⟩ : zt h o ≠ 0 ∧ zt h o < 20 := by simp only [List.mem_cons, List.not_mem_nil, or_false] at hc; omega
  refine zc_call (c1 := 0) (s1 := 0) (rest := []) hH hB (Nat.zero_le _) (Nat.zero_le _) (fun hf => zc_rSV X hH rfl hc9 hc8 rfl (x := ⟨"ChurchyardBook$Deep", "yearly", "()I"⟩) (mid := "ChurchyardBook$Single") (As := []) (wc_X9_yearly X.2.2.2.2.2.2.2.1 hF) q994 q991 q992 rfl q779 q756 q734 q984 q114 ⟨by decide, rfl⟩ ⟨Nat.le_of_ble_eq_true rfl, Nat.le_of_ble_eq_true rfl, Nat.le_of_ble_eq_true rfl⟩ rfl hl.1 (st0 := [.ref o]) rfl (Nat.le_of_ble_eq_true rfl) dX12_yearly_1 hf) (fun E9 ce9 q9 h9 H locs hx9 => False.elim hx9) (fun v9 h9 H locs hv9 hH hB => ?_)
  obtain ⟨z1, rfl, hF, rfl⟩ := hv9
  refine lv_iconst (v := 5) hx hb dX12_yearly_4 (by decide) ?_
  refine lv_aload_n hx hb dX12_yearly_5 rfl (lv_at hl 0 rfl) ?_
  obtain ⟨hc, hF⟩ := hF
  refine zc_getf X hH hc 4 604 ("ChurchyardBook$Grave", "wide", "I", true) (by decide +kernel) (v := .int (zi h 604 o)) rfl q667 (Or.inr q668) dX12_yearly_6 ?_
  refine lv_iconst (v := 1) hx hb dX12_yearly_9 (by decide) ?_
  refine lv_isub hx hb dX12_yearly_10 ?_
  refine lv_imul hx hb dX12_yearly_11 ?_
  refine lv_iadd hx hb dX12_yearly_12 ?_
  exact zc_iret X hH hB rfl rfl ⟨_, rfl, hF, eh⟩ dX12_yearly_13
set_option maxHeartbeats 1000000 in
theorem rv_yearly_2 {p : Program} {l : Launch} {e : Env} {R : Room} {s : State} {m : MethodId} {args : Array Value} {below : List Frame} {meth : Method} {c : Code} {H : Heap} {locs : List Loc} {cells slots : Nat} {cc : ByteArray} {nL pc : Nat} {ret : Option FieldType} {own : String} {ls : Array Slot} {rest : List Value} {D : va_G} {cA : Nat → ClassId} {P : Nat → Prop} {G : Nat × Nat × Nat} {h : ZH} {C S a idx : Nat} {Q : Int32 → Prop} (X : zc_Cx p l s m args meth c cc nL ret own D cA P G) (hH : zc_H D cA P h s H locs) (hlk : Cond.methodLink own idx ⟨"ChurchyardBook$Grave", "yearly", "()I"⟩ ∈ lw_all) (hF : fv_yearly_2 G a Q h) (hR : zc_rm R 2 11) (hsize : ls.size = nL) {st0 : List Value} (hst : st0 = ([] : List Value).reverse ++ .ref a :: rest) (hcat : (rest.map fun v => v.category).sum ≤ 8) (hdg : decode cc pc = .ok (.invokevirtual idx, 3)) (hf : cells + C ≤ R.cells ∧ slots + S ≤ R.slots) :
    vx_Run p l e R s m args below meth c H locs cells slots C S (F0 m pc ls st0) rest (zc_Q D cA P (fun v h' => ∃ z : Int32, v = some (.int z) ∧ Q z ∧ h = h') (Value.ref a :: []).toArray) (zc_X D cA P zc_no) P := by
  unfold fv_yearly_2 at hF
  have hR9 := hR
  obtain ⟨hc, hF⟩ := hF
  simp only [List.mem_cons, List.not_mem_nil, or_false] at hc
  rcases hc with hc | hc | hc | hc | hc | hc
  · have hF := hF.1 (by rw [hc]; decide)
    exact zc_rU X hH hc (by decide) rfl (owner := "ChurchyardBook$Grave") (x := ⟨"ChurchyardBook$Grave", "yearly", "()I"⟩) (As := []) (wc_X9_yearly X.2.2.2.2.2.2.2.1 hF) (lw_meth q994) (X.2.2.2.2.1 _ hlk) (X.2.2.2.2.1 _ q985) (zc_declC X q984 q994) (X.2.2.2.2.1 _ q996) q984 q114 ⟨by decide, by decide, rfl⟩ (zc_rm_le hR9 (by decide) (by decide)) rfl hsize hst hcat hdg hf
  · have hF := hF.1 (by rw [hc]; decide)
    exact zc_rU X hH hc (by decide) rfl (owner := "ChurchyardBook$Grave") (x := ⟨"ChurchyardBook$Grave", "yearly", "()I"⟩) (As := []) (wc_X9_yearly X.2.2.2.2.2.2.2.1 hF) (lw_meth q994) (X.2.2.2.2.1 _ hlk) (X.2.2.2.2.1 _ q985) (zc_declC X q984 q994) (X.2.2.2.2.1 _ q987) q984 q114 ⟨by decide, by decide, rfl⟩ (zc_rm_le hR9 (by decide) (by decide)) rfl hsize hst hcat hdg hf
  · have hF := hF.2 (by rw [hc]; decide)
    exact zc_rU X hH hc (by decide) rfl (owner := "ChurchyardBook$Grave") (x := ⟨"ChurchyardBook$Grave", "yearly", "()I"⟩) (As := []) (wc_X12_yearly X.2.2.2.2.2.2.2.1 hF) (lw_meth q990) (X.2.2.2.2.1 _ hlk) (X.2.2.2.2.1 _ q985) (zc_declC X q984 q994) (X.2.2.2.2.1 _ q988) q989 q117 ⟨by decide, by decide, rfl⟩ (zc_rm_le hR9 (by decide) (by decide)) rfl hsize hst hcat hdg hf
  · have hF := hF.1 (by rw [hc]; decide)
    exact zc_rU X hH hc (by decide) rfl (owner := "ChurchyardBook$Grave") (x := ⟨"ChurchyardBook$Grave", "yearly", "()I"⟩) (As := []) (wc_X9_yearly X.2.2.2.2.2.2.2.1 hF) (lw_meth q994) (X.2.2.2.2.1 _ hlk) (X.2.2.2.2.1 _ q985) (zc_declC X q984 q994) (X.2.2.2.2.1 _ q997) q984 q114 ⟨by decide, by decide, rfl⟩ (zc_rm_le hR9 (by decide) (by decide)) rfl hsize hst hcat hdg hf
  · have hF := hF.1 (by rw [hc]; decide)
    exact zc_rU X hH hc (by decide) rfl (owner := "ChurchyardBook$Grave") (x := ⟨"ChurchyardBook$Grave", "yearly", "()I"⟩) (As := []) (wc_X9_yearly X.2.2.2.2.2.2.2.1 hF) (lw_meth q994) (X.2.2.2.2.1 _ hlk) (X.2.2.2.2.1 _ q985) (zc_declC X q984 q994) (X.2.2.2.2.1 _ q995) q984 q114 ⟨by decide, by decide, rfl⟩ (zc_rm_le hR9 (by decide) (by decide)) rfl hsize hst hcat hdg hf
  · have hF := hF.1 (by rw [hc]; decide)
    exact zc_rU X hH hc (by decide) rfl (owner := "ChurchyardBook$Grave") (x := ⟨"ChurchyardBook$Grave", "yearly", "()I"⟩) (As := []) (wc_X9_yearly X.2.2.2.2.2.2.2.1 hF) (lw_meth q994) (X.2.2.2.2.1 _ hlk) (X.2.2.2.2.1 _ q985) (zc_declC X q984 q994) (X.2.2.2.2.1 _ q986) q984 q114 ⟨by decide, by decide, rfl⟩ (zc_rm_le hR9 (by decide) (by decide)) rfl hsize hst hcat hdg hf
