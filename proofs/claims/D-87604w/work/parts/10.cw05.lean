/-! THE COMPONENT SIDE: the walks, printed by gen_comp.py -/
set_option maxRecDepth 100000
set_option maxHeartbeats 4000000 in
set_option maxRecDepth 100000 in
theorem wc_X9_in_47 {p : Program} {l : Launch} {e : Env} {s : State} {m : MethodId} {args : Array Value} {below : List Frame} {meth : Method} {c : Code} {D : va_G} {cA : Nat → ClassId} {P : Nat → Prop} {G : Nat × Nat × Nat} {C S : Nat} {o : Nat} {Q : Option Nat → Prop} {K2 : ZH → Int32 → Int32 → Int32 → Prop} {h0 : ZH} (X : zc_Cx p l s m args meth c cX9_in 5 (some (.object "ChurchyardBook$Person")) "ChurchyardBook$Grave" D cA P G) (hN : meth.name = "in") (hT : c.exceptionTable.toList = tableOf []) (hK2 : ∀ (h : ZH) (v1 : Int32) (v2 : Int32) (v3 : Int32), K2 h v1 v2 v3 → ∀ (H : Heap) (locs : List Loc) (ls : Array Slot) (cells slots : Nat), cells + 0 ≤ C ∧ slots + 0 ≤ S → h0 = h → lv_has ls 5 [(0, .ref o), (1, .int v1), (2, .int v2), (3, .int v3)] → zc_H D cA P h s H locs → W p l e (zc_Ro 4 C S) s m args below meth c H locs cells slots (vx_MQ below (zc_Q D cA P (fun v h' => ∃ z : Option Nat, v = some (va_rf z) ∧ Q z ∧ h0 = h')) (zc_X D cA P zc_no) args s C S P) (F0 m 2 ls [])) :
    ∀ (h : ZH) (v1 : Int32) (v2 : Int32) (v3 : Int32), fc_X9_in_47 G o Q K2 h v1 v2 v3 → ∀ (H : Heap) (locs : List Loc) (ls : Array Slot) (cells slots : Nat), cells + 0 ≤ C ∧ slots + 0 ≤ S → h0 = h → lv_has ls 5 [(0, .ref o), (1, .int v1), (2, .int v2), (3, .int v3)] → zc_H D cA P h s H locs → W p l e (zc_Ro 4 C S) s m args below meth c H locs cells slots (vx_MQ below (zc_Q D cA P (fun v h' => ∃ z : Option Nat, v = some (va_rf z) ∧ Q z ∧ h0 = h')) (zc_X D cA P zc_no) args s C S P) (F0 m 47 ls []) := by
  have hx := X.1
  have hb := X.2.1
  have hown := X.2.2.2.1
  have hts := X.2.2.2.2.1
  intro h v1 v2 v3 hF
  intro H locs ls cells slots hB eh hl hH
  unfold fc_X9_in_47 at hF
  obtain ⟨x1, ex1⟩ : ∃ z : Int32, z = v3 + 1 := ⟨_, rfl⟩
  have hF := hF x1 ex1
  refine lv_iinc (v := x1) (lv' := [(3, .int x1), (0, .ref o), (1, .int v1), (2, .int v2)]) hx hb dX9_in_47 hl (k := 3) rfl (by rw [ex1]; rfl) (by decide) rfl (fun ls hl => ?_)
  refine lv_goto (tgt := 2) hx hb dX9_in_50 (by decide) ?_
  exact hK2 h v1 v2 x1 hF _ _ _ _ _ hB eh (lv_sub hl [1, 2, 3, 0] rfl) hH
set_option maxHeartbeats 4000000 in
set_option maxRecDepth 100000 in
theorem wc_X9_in_2 {p : Program} {l : Launch} {e : Env} {s : State} {m : MethodId} {args : Array Value} {below : List Frame} {meth : Method} {c : Code} {D : va_G} {cA : Nat → ClassId} {P : Nat → Prop} {G : Nat × Nat × Nat} {C S : Nat} {o : Nat} {Q : Option Nat → Prop} {h0 : ZH} (X : zc_Cx p l s m args meth c cX9_in 5 (some (.object "ChurchyardBook$Person")) "ChurchyardBook$Grave" D cA P G) (hN : meth.name = "in") (hT : c.exceptionTable.toList = tableOf []) :
    ∀ (n : Nat) (h : ZH) (v1 : Int32) (v2 : Int32) (v3 : Int32), fc_X9_in_2 G o Q n h v1 v2 v3 → ∀ (H : Heap) (locs : List Loc) (ls : Array Slot) (cells slots : Nat), cells + 0 ≤ C ∧ slots + 0 ≤ S → h0 = h → lv_has ls 5 [(0, .ref o), (1, .int v1), (2, .int v2), (3, .int v3)] → zc_H D cA P h s H locs → W p l e (zc_Ro 4 C S) s m args below meth c H locs cells slots (vx_MQ below (zc_Q D cA P (fun v h' => ∃ z : Option Nat, v = some (va_rf z) ∧ Q z ∧ h0 = h')) (zc_X D cA P zc_no) args s C S P) (F0 m 2 ls []) := by
  have hx := X.1
  have hb := X.2.1
  have hown := X.2.2.2.1
  have hts := X.2.2.2.2.1
  intro n
  induction n with
  | zero =>
    intro h v1 v2 v3 hF
    exact False.elim hF
  | succ n ih =>
    intro h v1 v2 v3 hF
    intro H locs ls cells slots hB eh hl hH
    unfold fc_X9_in_2 at hF
    refine lv_iload_n hx hb dX9_in_2 rfl (lv_at hl 3 rfl) ?_
    refine lv_aload_n hx hb dX9_in_3 rfl (lv_at hl 0 rfl) ?_
    obtain ⟨hc, hF⟩ := hF
    refine zc_getf X hH hc 15 615 ("ChurchyardBook$Grave", "lying", "Ljava/util/ArrayList;", true) (by decide +kernel) (v := va_rf (zr h 615 o)) rfl q695 (Or.inl rfl) dX9_in_4 ?_
    obtain ⟨b1, eb1, hF⟩ := hF
    refine zq_st (st2 := [.ref b1, .int v3]) (by rw [eb1]; first | done | rfl) ?_
    obtain ⟨hc, hF⟩ := hF
    refine zc_call (c1 := 0) (s1 := 0) (rest := [.int v3]) hH hB (Nat.zero_le _) (Nat.zero_le _) (fun hf => zc_rV X hH hc (by decide) rfl (As := []) (wc_J2_size X.2.2.2.2.2.2.2.1 hF) (lw_V q1088 q350 q351 q94 q352) ⟨rfl, by decide, by decide, rfl⟩ ⟨Nat.le_of_ble_eq_true rfl, Nat.le_of_ble_eq_true rfl, Nat.le_of_ble_eq_true rfl⟩ rfl hl.1 (st0 := [.ref b1, .int v3]) rfl (Nat.le_of_ble_eq_true rfl) dX9_in_7 hf) (fun E9 ce9 q9 h9 H locs hx9 => False.elim hx9) (fun v9 h9 H locs hv9 hH hB => ?_)
    obtain ⟨z2, rfl, hF, rfl⟩ := hv9
    refine lv_icmp_ge (tgt := 53) hx hb dX9_in_10 (by decide) (fun cd => ?_) (fun cd => ?_)
    · have hF := hF.1 cd
      refine lv_null hx hb dX9_in_53 ?_
      exact zc_aret X hH hB rfl (by first | exact Or.inl ⟨_, rfl⟩ | exact Or.inr ⟨_, rfl⟩) (r := none) rfl ⟨_, rfl, hF, eh⟩ dX9_in_54
    · have hF := hF.2 cd
      refine lv_aload_n hx hb dX9_in_13 rfl (lv_at hl 0 rfl) ?_
      obtain ⟨hc, hF⟩ := hF
      refine zc_getf X hH hc 15 615 ("ChurchyardBook$Grave", "lying", "Ljava/util/ArrayList;", true) (by decide +kernel) (v := va_rf (zr h 615 o)) rfl q695 (Or.inl rfl) dX9_in_14 ?_
      refine lv_iload_n hx hb dX9_in_17 rfl (lv_at hl 3 rfl) ?_
      refine zq_st (st2 := [.int v3, .ref b1]) (by rw [eb1]; first | done | rfl) ?_
      obtain ⟨hc, hF⟩ := hF
      refine zc_call (c1 := 0) (s1 := 0) (rest := []) hH hB (Nat.zero_le _) (Nat.zero_le _) (fun hf => zc_rV X hH hc (by decide) rfl (As := [.int v3]) (wc_J2_get X.2.2.2.2.2.2.2.1 hF) (lw_V q1089 q476 q477 q94 q478) ⟨rfl, by decide, by decide, rfl⟩ ⟨Nat.le_of_ble_eq_true rfl, Nat.le_of_ble_eq_true rfl, Nat.le_of_ble_eq_true rfl⟩ rfl hl.1 (st0 := [.int v3, .ref b1]) rfl (Nat.le_of_ble_eq_true rfl) dX9_in_18 hf) (fun E9 ce9 q9 h9 H locs hx9 => False.elim hx9) (fun v9 h9 H locs hv9 hH hB => ?_)
      obtain ⟨r3, rfl, hF, rfl⟩ := hv9
      obtain ⟨hR, hF⟩ := hF
      refine zc_castY X hH (r := r3) [14] "ChurchyardBook$Person" hR (by decide) (by decide +kernel) q1090 dX9_in_21 ?_
      refine zq_astore (r := r3) (lv' := [(4, va_rf r3), (0, .ref o), (1, .int v1), (2, .int v2), (3, .int v3)]) hx hb rfl dX9_in_24 hl (by decide) rfl (fun ls hl => ?_)
      refine zq_aload hx hb dX9_in_26 (lv_at hl 0 rfl) ?_
      obtain ⟨b4, eb4, hF⟩ := hF
      refine zq_st (st2 := [.ref b4]) (by rw [eb4]; first | done | rfl) ?_
      obtain ⟨hc, hF⟩ := hF
      refine zc_getf X hH hc 11 711 ("ChurchyardBook$Person", "column", "I", false) (by decide +kernel) (v := .int (zi h 711 b4)) rfl q895 (Or.inl rfl) dX9_in_28 ?_
      refine lv_iload_n hx hb dX9_in_31 rfl (lv_at hl 2 rfl) ?_
      refine lv_icmp_ne (tgt := 47) hx hb dX9_in_32 (by decide) (fun cd => ?_) (fun cd => ?_)
      · have hF := hF.1 cd
        exact wc_X9_in_47 X hN hT ih h v1 v2 v3 hF _ _ _ _ _ hB eh (lv_sub hl [1, 2, 3, 4] rfl) hH
      · have hF := hF.2 cd
        refine zq_aload hx hb dX9_in_35 (lv_at hl 0 rfl) ?_
        refine zq_st (st2 := [.ref b4]) (by rw [eb4]; first | done | rfl) ?_
        obtain ⟨hc, hF⟩ := hF
        refine zc_getf X hH hc 12 712 ("ChurchyardBook$Person", "depth", "I", false) (by decide +kernel) (v := .int (zi h 712 b4)) rfl q899 (Or.inl rfl) dX9_in_37 ?_
        refine lv_iload_n hx hb dX9_in_40 rfl (lv_at hl 3 rfl) ?_
        refine lv_icmp_ne (tgt := 47) hx hb dX9_in_41 (by decide) (fun cd => ?_) (fun cd => ?_)
        · have hF := hF.1 cd
          exact wc_X9_in_47 X hN hT ih h v1 v2 v3 hF _ _ _ _ _ hB eh (lv_sub hl [1, 2, 3, 4] rfl) hH
        · have hF := hF.2 cd
          refine zq_aload hx hb dX9_in_44 (lv_at hl 0 rfl) ?_
          exact zc_aret X hH hB rfl (by first | exact Or.inl ⟨_, rfl⟩ | exact Or.inr ⟨_, rfl⟩) (r := r3) rfl ⟨_, rfl, hF, eh⟩ dX9_in_46
set_option maxHeartbeats 4000000 in
set_option maxRecDepth 100000 in
theorem wc_X9_in {l : Launch} {D : va_G} {cA : Nat → ClassId} {P : Nat → Prop} {G : Nat × Nat × Nat} {o : Nat} {Q : Option Nat → Prop} {h : ZH} {C S : Nat} {v1 : Int32} {v2 : Int32} (hl9 : l.stackTraces = false) (hF : fc_X9_in G o Q h v1 v2) :
    zc_M l yX9_in (ws_ yX9_in cX9_in 5 (some (.object "ChurchyardBook$Person"))) 4 D cA P G [.ref o, .int v1, .int v2] h C S (fun v h' => ∃ z : Option Nat, v = some (va_rf z) ∧ Q z ∧ h = h') zc_no := by
  refine zc_ofF hl9 rfl (by decide +kernel) (Nat.le_of_ble_eq_true rfl) ?_
  intro p e s m args below meth c H locs ls X hN hT hH hl
  have hx := X.1
  have hb := X.2.1
  have hown := X.2.2.2.1
  have hts := X.2.2.2.2.1
  have hl : lv_has ls 5 [(0, .ref o), (1, .int v1), (2, .int v2)] := hl
  have hB : 0 + 0 ≤ C ∧ 0 + 0 ≤ S := ⟨by omega, by omega⟩
  have eh : h = h := rfl
  unfold fc_X9_in at hF
  refine lv_iconst (v := 0) hx hb dX9_in_0 (by decide) ?_
  refine lv_istore_n (lv' := [(3, .int 0), (0, .ref o), (1, .int v1), (2, .int v2)]) hx hb dX9_in_1 rfl hl (by decide) rfl (fun ls hl => ?_)
  obtain ⟨n9, hF⟩ := hF
  exact wc_X9_in_2 X hN hT n9 h v1 v2 0 hF _ _ _ _ _ hB eh (lv_sub hl [1, 2, 3, 0] rfl) hH
set_option maxHeartbeats 1000000 in
theorem rv_in_9 {p : Program} {l : Launch} {e : Env} {R : Room} {s : State} {m : MethodId} {args : Array Value} {below : List Frame} {meth : Method} {c : Code} {H : Heap} {locs : List Loc} {cells slots : Nat} {cc : ByteArray} {nL pc : Nat} {ret : Option FieldType} {own : String} {ls : Array Slot} {rest : List Value} {D : va_G} {cA : Nat → ClassId} {P : Nat → Prop} {G : Nat × Nat × Nat} {h : ZH} {C S a idx : Nat} {Q : Option Nat → Prop} {v1 : Int32} {v2 : Int32} (X : zc_Cx p l s m args meth c cc nL ret own D cA P G) (hH : zc_H D cA P h s H locs) (hlk : Cond.methodLink own idx ⟨"ChurchyardBook$Grave", "in", "(II)LChurchyardBook$Person;"⟩ ∈ lw_all) (hF : fv_in_9 G a Q h v1 v2) (hR : zc_rm R 4 11) (hsize : ls.size = nL) {st0 : List Value} (hst : st0 = ([.int v1, .int v2] : List Value).reverse ++ .ref a :: rest) (hcat : (rest.map fun v => v.category).sum ≤ 8) (hdg : decode cc pc = .ok (.invokevirtual idx, 3)) (hf : cells + C ≤ R.cells ∧ slots + S ≤ R.slots) :
    vx_Run p l e R s m args below meth c H locs cells slots C S (F0 m pc ls st0) rest (zc_Q D cA P (fun v h' => ∃ z : Option Nat, v = some (va_rf z) ∧ Q z ∧ h = h') (Value.ref a :: [.int v1, .int v2]).toArray) (zc_X D cA P zc_no) P := by
  unfold fv_in_9 at hF
  have hR9 := hR
  obtain ⟨hc, hF⟩ := hF
  simp only [List.mem_cons, List.not_mem_nil, or_false] at hc
  rcases hc with hc | hc | hc | hc | hc | hc
  · have hF := hF (by rw [hc]; decide)
    exact zc_rU X hH hc (by decide) rfl (owner := "ChurchyardBook$Grave") (x := ⟨"ChurchyardBook$Grave", "in", "(II)LChurchyardBook$Person;"⟩) (As := [.int v1, .int v2]) (wc_X9_in X.2.2.2.2.2.2.2.1 hF) (lw_meth q1220) (X.2.2.2.2.1 _ hlk) (X.2.2.2.2.1 _ q1213) (zc_declC X q1212 q1220) (X.2.2.2.2.1 _ q1218) q1212 q114 ⟨by decide, by decide, rfl⟩ (zc_rm_le hR9 (by decide) (by decide)) rfl hsize hst hcat hdg hf
  · have hF := hF (by rw [hc]; decide)
    exact zc_rU X hH hc (by decide) rfl (owner := "ChurchyardBook$Grave") (x := ⟨"ChurchyardBook$Grave", "in", "(II)LChurchyardBook$Person;"⟩) (As := [.int v1, .int v2]) (wc_X9_in X.2.2.2.2.2.2.2.1 hF) (lw_meth q1220) (X.2.2.2.2.1 _ hlk) (X.2.2.2.2.1 _ q1213) (zc_declC X q1212 q1220) (X.2.2.2.2.1 _ q1215) q1212 q114 ⟨by decide, by decide, rfl⟩ (zc_rm_le hR9 (by decide) (by decide)) rfl hsize hst hcat hdg hf
  · have hF := hF (by rw [hc]; decide)
    exact zc_rU X hH hc (by decide) rfl (owner := "ChurchyardBook$Grave") (x := ⟨"ChurchyardBook$Grave", "in", "(II)LChurchyardBook$Person;"⟩) (As := [.int v1, .int v2]) (wc_X9_in X.2.2.2.2.2.2.2.1 hF) (lw_meth q1220) (X.2.2.2.2.1 _ hlk) (X.2.2.2.2.1 _ q1213) (zc_declC X q1212 q1220) (X.2.2.2.2.1 _ q1216) q1212 q114 ⟨by decide, by decide, rfl⟩ (zc_rm_le hR9 (by decide) (by decide)) rfl hsize hst hcat hdg hf
  · have hF := hF (by rw [hc]; decide)
    exact zc_rU X hH hc (by decide) rfl (owner := "ChurchyardBook$Grave") (x := ⟨"ChurchyardBook$Grave", "in", "(II)LChurchyardBook$Person;"⟩) (As := [.int v1, .int v2]) (wc_X9_in X.2.2.2.2.2.2.2.1 hF) (lw_meth q1220) (X.2.2.2.2.1 _ hlk) (X.2.2.2.2.1 _ q1213) (zc_declC X q1212 q1220) (X.2.2.2.2.1 _ q1219) q1212 q114 ⟨by decide, by decide, rfl⟩ (zc_rm_le hR9 (by decide) (by decide)) rfl hsize hst hcat hdg hf
  · have hF := hF (by rw [hc]; decide)
    exact zc_rU X hH hc (by decide) rfl (owner := "ChurchyardBook$Grave") (x := ⟨"ChurchyardBook$Grave", "in", "(II)LChurchyardBook$Person;"⟩) (As := [.int v1, .int v2]) (wc_X9_in X.2.2.2.2.2.2.2.1 hF) (lw_meth q1220) (X.2.2.2.2.1 _ hlk) (X.2.2.2.2.1 _ q1213) (zc_declC X q1212 q1220) (X.2.2.2.2.1 _ q1217) q1212 q114 ⟨by decide, by decide, rfl⟩ (zc_rm_le hR9 (by decide) (by decide)) rfl hsize hst hcat hdg hf
  · have hF := hF (by rw [hc]; decide)
    exact zc_rU X hH hc (by decide) rfl (owner := "ChurchyardBook$Grave") (x := ⟨"ChurchyardBook$Grave", "in", "(II)LChurchyardBook$Person;"⟩) (As := [.int v1, .int v2]) (wc_X9_in X.2.2.2.2.2.2.2.1 hF) (lw_meth q1220) (X.2.2.2.2.1 _ hlk) (X.2.2.2.2.1 _ q1213) (zc_declC X q1212 q1220) (X.2.2.2.2.1 _ q1214) q1212 q114 ⟨by decide, by decide, rfl⟩ (zc_rm_le hR9 (by decide) (by decide)) rfl hsize hst hcat hdg hf
set_option maxHeartbeats 1000000 in
theorem rv_in_12 {p : Program} {l : Launch} {e : Env} {R : Room} {s : State} {m : MethodId} {args : Array Value} {below : List Frame} {meth : Method} {c : Code} {H : Heap} {locs : List Loc} {cells slots : Nat} {cc : ByteArray} {nL pc : Nat} {ret : Option FieldType} {own : String} {ls : Array Slot} {rest : List Value} {D : va_G} {cA : Nat → ClassId} {P : Nat → Prop} {G : Nat × Nat × Nat} {h : ZH} {C S a idx : Nat} {Q : Option Nat → Prop} {v1 : Int32} {v2 : Int32} (X : zc_Cx p l s m args meth c cc nL ret own D cA P G) (hH : zc_H D cA P h s H locs) (hlk : Cond.methodLink own idx ⟨"ChurchyardBook$Wall", "in", "(II)LChurchyardBook$Person;"⟩ ∈ lw_all) (hF : fv_in_12 G a Q h v1 v2) (hR : zc_rm R 4 11) (hsize : ls.size = nL) {st0 : List Value} (hst : st0 = ([.int v1, .int v2] : List Value).reverse ++ .ref a :: rest) (hcat : (rest.map fun v => v.category).sum ≤ 8) (hdg : decode cc pc = .ok (.invokevirtual idx, 3)) (hf : cells + C ≤ R.cells ∧ slots + S ≤ R.slots) :
    vx_Run p l e R s m args below meth c H locs cells slots C S (F0 m pc ls st0) rest (zc_Q D cA P (fun v h' => ∃ z : Option Nat, v = some (va_rf z) ∧ Q z ∧ h = h') (Value.ref a :: [.int v1, .int v2]).toArray) (zc_X D cA P zc_no) P := by
  unfold fv_in_12 at hF
  have hR9 := hR
  obtain ⟨hc, hF⟩ := hF
  simp only [List.mem_cons, List.not_mem_nil, or_false] at hc
  rcases hc with hc | hc
  · have hF := hF (by rw [hc]; decide)
    exact zc_rU X hH hc (by decide) rfl (owner := "ChurchyardBook$Grave") (x := ⟨"ChurchyardBook$Wall", "in", "(II)LChurchyardBook$Person;"⟩) (As := [.int v1, .int v2]) (wc_X9_in X.2.2.2.2.2.2.2.1 hF) (lw_meth q1220) (X.2.2.2.2.1 _ hlk) (X.2.2.2.2.1 _ q1243) (zc_declC X q1212 q1220) (X.2.2.2.2.1 _ q1246) q1212 q114 ⟨by decide, by decide, rfl⟩ (zc_rm_le hR9 (by decide) (by decide)) rfl hsize hst hcat hdg hf
  · have hF := hF (by rw [hc]; decide)
    exact zc_rU X hH hc (by decide) rfl (owner := "ChurchyardBook$Grave") (x := ⟨"ChurchyardBook$Wall", "in", "(II)LChurchyardBook$Person;"⟩) (As := [.int v1, .int v2]) (wc_X9_in X.2.2.2.2.2.2.2.1 hF) (lw_meth q1220) (X.2.2.2.2.1 _ hlk) (X.2.2.2.2.1 _ q1243) (zc_declC X q1212 q1220) (X.2.2.2.2.1 _ q1245) q1212 q114 ⟨by decide, by decide, rfl⟩ (zc_rm_le hR9 (by decide) (by decide)) rfl hsize hst hcat hdg hf
set_option maxHeartbeats 1000000 in
theorem rv_in_25 {p : Program} {l : Launch} {e : Env} {R : Room} {s : State} {m : MethodId} {args : Array Value} {below : List Frame} {meth : Method} {c : Code} {H : Heap} {locs : List Loc} {cells slots : Nat} {cc : ByteArray} {nL pc : Nat} {ret : Option FieldType} {own : String} {ls : Array Slot} {rest : List Value} {D : va_G} {cA : Nat → ClassId} {P : Nat → Prop} {G : Nat × Nat × Nat} {h : ZH} {C S a idx : Nat} {Q : Option Nat → Prop} {v1 : Int32} {v2 : Int32} (X : zc_Cx p l s m args meth c cc nL ret own D cA P G) (hH : zc_H D cA P h s H locs) (hlk : Cond.methodLink own idx ⟨"ChurchyardBook$Single", "in", "(II)LChurchyardBook$Person;"⟩ ∈ lw_all) (hF : fv_in_25 G a Q h v1 v2) (hR : zc_rm R 4 11) (hsize : ls.size = nL) {st0 : List Value} (hst : st0 = ([.int v1, .int v2] : List Value).reverse ++ .ref a :: rest) (hcat : (rest.map fun v => v.category).sum ≤ 8) (hdg : decode cc pc = .ok (.invokevirtual idx, 3)) (hf : cells + C ≤ R.cells ∧ slots + S ≤ R.slots) :
    vx_Run p l e R s m args below meth c H locs cells slots C S (F0 m pc ls st0) rest (zc_Q D cA P (fun v h' => ∃ z : Option Nat, v = some (va_rf z) ∧ Q z ∧ h = h') (Value.ref a :: [.int v1, .int v2]).toArray) (zc_X D cA P zc_no) P := by
  unfold fv_in_25 at hF
  have hR9 := hR
  obtain ⟨hc, hF⟩ := hF
  simp only [List.mem_cons, List.not_mem_nil, or_false] at hc
  rcases hc with hc | hc | hc | hc | hc | hc
  · have hF := hF (by rw [hc]; decide)
    exact zc_rU X hH hc (by decide) rfl (owner := "ChurchyardBook$Grave") (x := ⟨"ChurchyardBook$Single", "in", "(II)LChurchyardBook$Person;"⟩) (As := [.int v1, .int v2]) (wc_X9_in X.2.2.2.2.2.2.2.1 hF) (lw_meth q1220) (X.2.2.2.2.1 _ hlk) (X.2.2.2.2.1 _ q1548) (zc_declC X q1212 q1220) (X.2.2.2.2.1 _ q1553) q1212 q114 ⟨by decide, by decide, rfl⟩ (zc_rm_le hR9 (by decide) (by decide)) rfl hsize hst hcat hdg hf
  · have hF := hF (by rw [hc]; decide)
    exact zc_rU X hH hc (by decide) rfl (owner := "ChurchyardBook$Grave") (x := ⟨"ChurchyardBook$Single", "in", "(II)LChurchyardBook$Person;"⟩) (As := [.int v1, .int v2]) (wc_X9_in X.2.2.2.2.2.2.2.1 hF) (lw_meth q1220) (X.2.2.2.2.1 _ hlk) (X.2.2.2.2.1 _ q1548) (zc_declC X q1212 q1220) (X.2.2.2.2.1 _ q1550) q1212 q114 ⟨by decide, by decide, rfl⟩ (zc_rm_le hR9 (by decide) (by decide)) rfl hsize hst hcat hdg hf
  · have hF := hF (by rw [hc]; decide)
    exact zc_rU X hH hc (by decide) rfl (owner := "ChurchyardBook$Grave") (x := ⟨"ChurchyardBook$Single", "in", "(II)LChurchyardBook$Person;"⟩) (As := [.int v1, .int v2]) (wc_X9_in X.2.2.2.2.2.2.2.1 hF) (lw_meth q1220) (X.2.2.2.2.1 _ hlk) (X.2.2.2.2.1 _ q1548) (zc_declC X q1212 q1220) (X.2.2.2.2.1 _ q1551) q1212 q114 ⟨by decide, by decide, rfl⟩ (zc_rm_le hR9 (by decide) (by decide)) rfl hsize hst hcat hdg hf
  · have hF := hF (by rw [hc]; decide)
    exact zc_rU X hH hc (by decide) rfl (owner := "ChurchyardBook$Grave") (x := ⟨"ChurchyardBook$Single", "in", "(II)LChurchyardBook$Person;"⟩) (As := [.int v1, .int v2]) (wc_X9_in X.2.2.2.2.2.2.2.1 hF) (lw_meth q1220) (X.2.2.2.2.1 _ hlk) (X.2.2.2.2.1 _ q1548) (zc_declC X q1212 q1220) (X.2.2.2.2.1 _ q1554) q1212 q114 ⟨by decide, by decide, rfl⟩ (zc_rm_le hR9 (by decide) (by decide)) rfl hsize hst hcat hdg hf
  · have hF := hF (by rw [hc]; decide)
    exact zc_rU X hH hc (by decide) rfl (owner := "ChurchyardBook$Grave") (x := ⟨"ChurchyardBook$Single", "in", "(II)LChurchyardBook$Person;"⟩) (As := [.int v1, .int v2]) (wc_X9_in X.2.2.2.2.2.2.2.1 hF) (lw_meth q1220) (X.2.2.2.2.1 _ hlk) (X.2.2.2.2.1 _ q1548) (zc_declC X q1212 q1220) (X.2.2.2.2.1 _ q1552) q1212 q114 ⟨by decide, by decide, rfl⟩ (zc_rm_le hR9 (by decide) (by decide)) rfl hsize hst hcat hdg hf
  · have hF := hF (by rw [hc]; decide)
    exact zc_rU X hH hc (by decide) rfl (owner := "ChurchyardBook$Grave") (x := ⟨"ChurchyardBook$Single", "in", "(II)LChurchyardBook$Person;"⟩) (As := [.int v1, .int v2]) (wc_X9_in X.2.2.2.2.2.2.2.1 hF) (lw_meth q1220) (X.2.2.2.2.1 _ hlk) (X.2.2.2.2.1 _ q1548) (zc_declC X q1212 q1220) (X.2.2.2.2.1 _ q1549) q1212 q114 ⟨by decide, by decide, rfl⟩ (zc_rm_le hR9 (by decide) (by decide)) rfl hsize hst hcat hdg hf
set_option maxHeartbeats 4000000 in
set_option maxRecDepth 100000 in
theorem wc_X16_rests {l : Launch} {D : va_G} {cA : Nat → ClassId} {P : Nat → Prop} {G : Nat × Nat × Nat} {o : Nat} {Q : Int32 → Prop} {h : ZH} {C S : Nat} {v1 : Int32} (hl9 : l.stackTraces = false) (hF : fc_X16_rests G o Q h v1) :
    zc_M l yX16_rests (ws_ yX16_rests cX16_rests 2 (some .boolean)) 1 D cA P G [.ref o, .int v1] h C S (fun v h' => ∃ z : Int32, v = some (.int z) ∧ Q z ∧ h = h') zc_no := by
  refine zc_ofF hl9 rfl (by decide +kernel) (Nat.le_of_ble_eq_true rfl) ?_
  intro p e s m args below meth c H locs ls X hN hT hH hl
  have hx := X.1
  have hb := X.2.1
  have hown := X.2.2.2.1
  have hts := X.2.2.2.2.1
  have hl : lv_has ls 2 [(0, .ref o), (1, .int v1)] := hl
  have hB : 0 + 0 ≤ C ∧ 0 + 0 ≤ S := ⟨by omega, by omega⟩
  have eh : h = h := rfl
  unfold fc_X16_rests at hF
  refine lv_aload_n hx hb dX16_rests_0 rfl (lv_at hl 0 rfl) ?_
  obtain ⟨hc, hF⟩ := hF
  refine zc_getf X hH hc 10 710 ("ChurchyardBook$Person", "grave", "LChurchyardBook$Grave;", false) (by decide +kernel) (v := va_rf (zr h 710 o)) rfl q891 (Or.inl rfl) dX16_rests_1 ?_
  refine zq_ifnull (tgt := 19) hx hb dX16_rests_4 (by decide) (fun cd => ?_) (fun b1 eb1 => ?_)
  · have hF := hF.1 cd
    refine lv_iconst (v := 0) hx hb dX16_rests_19 (by decide) ?_
    exact zc_iret X hH hB rfl rfl ⟨_, rfl, hF, eh⟩ dX16_rests_20
  · have hF := hF.2 b1 eb1
    refine lv_iload_n hx hb dX16_rests_7 rfl (lv_at hl 1 rfl) ?_
    refine lv_aload_n hx hb dX16_rests_8 rfl (lv_at hl 0 rfl) ?_
    obtain ⟨hc, hF⟩ := hF
    refine zc_getf X hH hc 9 709 ("ChurchyardBook$Person", "end", "I", false) (by decide +kernel) (v := .int (zi h 709 o)) rfl q886 (Or.inl rfl) dX16_rests_9 ?_
    refine lv_icmp_ge (tgt := 19) hx hb dX16_rests_12 (by decide) (fun cd => ?_) (fun cd => ?_)
    · have hF := hF.1 cd
      refine lv_iconst (v := 0) hx hb dX16_rests_19 (by decide) ?_
      exact zc_iret X hH hB rfl rfl ⟨_, rfl, hF, eh⟩ dX16_rests_20
    · have hF := hF.2 cd
      refine lv_iconst (v := 1) hx hb dX16_rests_15 (by decide) ?_
      refine lv_goto (tgt := 20) hx hb dX16_rests_16 (by decide) ?_
      exact zc_iret X hH hB rfl rfl ⟨_, rfl, hF, eh⟩ dX16_rests_20
set_option maxHeartbeats 4000000 in
set_option maxRecDepth 100000 in
theorem wc_X9_isOpen_22 {p : Program} {l : Launch} {e : Env} {s : State} {m : MethodId} {args : Array Value} {below : List Frame} {meth : Method} {c : Code} {D : va_G} {cA : Nat → ClassId} {P : Nat → Prop} {G : Nat × Nat × Nat} {C S : Nat} {o : Nat} {Q : Int32 → Prop} {h0 : ZH} (X : zc_Cx p l s m args meth c cX9_isOpen 5 (some .boolean) "ChurchyardBook$Grave" D cA P G) (hN : meth.name = "isOpen") (hT : c.exceptionTable.toList = tableOf []) :
    ∀ (h : ZH), fc_X9_isOpen_22 G o Q h → ∀ (H : Heap) (locs : List Loc) (ls : Array Slot) (cells slots : Nat), cells + 0 ≤ C ∧ slots + 0 ≤ S → h0 = h → lv_has ls 5 [(0, .ref o)] → zc_H D cA P h s H locs → W p l e (zc_Ro 5 C S) s m args below meth c H locs cells slots (vx_MQ below (zc_Q D cA P (fun v h' => ∃ z : Int32, v = some (.int z) ∧ Q z ∧ h0 = h')) (zc_X D cA P zc_no) args s C S P) (F0 m 22 ls []) := by
  have hx := X.1
  have hb := X.2.1
  have hown := X.2.2.2.1
  have hts := X.2.2.2.2.1
  intro h hF
  intro H locs ls cells slots hB eh hl hH
  unfold fc_X9_isOpen_22 at hF
  refine lv_iconst (v := 1) hx hb dX9_isOpen_22 (by decide) ?_
  refine lv_goto (tgt := 27) hx hb dX9_isOpen_23 (by decide) ?_
  exact zc_iret X hH hB rfl rfl ⟨_, rfl, hF, eh⟩ dX9_isOpen_27
set_option maxHeartbeats 4000000 in
set_option maxRecDepth 100000 in
theorem wc_X9_isOpen {l : Launch} {D : va_G} {cA : Nat → ClassId} {P : Nat → Prop} {G : Nat × Nat × Nat} {o : Nat} {Q : Int32 → Prop} {h : ZH} {C S : Nat} {v1 : Int32} {v2 : Int32} {v3 : Int32} (hl9 : l.stackTraces = false) (hF : fc_X9_isOpen G o Q h v1 v2 v3) :
    zc_M l yX9_isOpen (ws_ yX9_isOpen cX9_isOpen 5 (some .boolean)) 5 D cA P G [.ref o, .int v1, .int v2, .int v3] h C S (fun v h' => ∃ z : Int32, v = some (.int z) ∧ Q z ∧ h = h') zc_no := by
  refine zc_ofF hl9 rfl (by decide +kernel) (Nat.le_of_ble_eq_true rfl) ?_
  intro p e s m args below meth c H locs ls X hN hT hH hl
  have hx := X.1
  have hb := X.2.1
  have hown := X.2.2.2.1
  have hts := X.2.2.2.2.1
  have hl : lv_has ls 5 [(0, .ref o), (1, .int v1), (2, .int v2), (3, .int v3)] := hl
  have hB : 0 + 0 ≤ C ∧ 0 + 0 ≤ S := ⟨by omega, by omega⟩
  have eh : h = h := rfl
  unfold fc_X9_isOpen at hF
  refine lv_aload_n hx hb dX9_isOpen_0 rfl (lv_at hl 0 rfl) ?_
  refine lv_iload_n hx hb dX9_isOpen_1 rfl (lv_at hl 1 rfl) ?_
  refine lv_iload_n hx hb dX9_isOpen_2 rfl (lv_at hl 2 rfl) ?_
  refine zc_call (c1 := 0) (s1 := 0) (rest := []) hH hB (Nat.zero_le _) (Nat.zero_le _) (fun hf => rv_in_9 X hH q1211 hF ⟨Nat.le_of_ble_eq_true rfl, Nat.le_of_ble_eq_true rfl, Nat.le_of_ble_eq_true rfl⟩ hl.1 (st0 := [.int v2, .int v1, .ref o]) rfl (Nat.le_of_ble_eq_true rfl) dX9_isOpen_3 hf) (fun E9 ce9 q9 h9 H locs hx9 => False.elim hx9) (fun v9 h9 H locs hv9 hH hB => ?_)
  obtain ⟨r1, rfl, hF, rfl⟩ := hv9
  refine zq_astore (r := r1) (lv' := [(4, va_rf r1), (0, .ref o), (1, .int v1), (2, .int v2), (3, .int v3)]) hx hb rfl dX9_isOpen_6 hl (by decide) rfl (fun ls hl => ?_)
  refine zq_aload hx hb dX9_isOpen_8 (lv_at hl 0 rfl) ?_
  refine zq_ifnull (tgt := 22) hx hb dX9_isOpen_10 (by decide) (fun cd => ?_) (fun b2 eb2 => ?_)
  · have hF := hF.1 cd
    exact wc_X9_isOpen_22 X hN hT h hF _ _ _ _ _ hB eh (lv_sub hl [1] rfl) hH
  · have hF := hF.2 b2 eb2
    refine zq_aload hx hb dX9_isOpen_13 (lv_at hl 0 rfl) ?_
    refine lv_iload_n hx hb dX9_isOpen_15 rfl (lv_at hl 4 rfl) ?_
    refine zq_st (st2 := [.int v3, .ref b2]) (by rw [eb2]; first | done | rfl) ?_
    obtain ⟨hc, hF⟩ := hF
    refine zc_call (c1 := 0) (s1 := 0) (rest := []) hH hB (Nat.zero_le _) (Nat.zero_le _) (fun hf => zc_rV X hH hc (by decide) rfl (As := [.int v3]) (wc_X16_rests X.2.2.2.2.2.2.2.1 hF) (lw_V q1221 q1222 q1223 q121 q1224) ⟨rfl, by decide, by decide, rfl⟩ ⟨Nat.le_of_ble_eq_true rfl, Nat.le_of_ble_eq_true rfl, Nat.le_of_ble_eq_true rfl⟩ rfl hl.1 (st0 := [.int v3, .ref b2]) rfl (Nat.le_of_ble_eq_true rfl) dX9_isOpen_16 hf) (fun E9 ce9 q9 h9 H locs hx9 => False.elim hx9) (fun v9 h9 H locs hv9 hH hB => ?_)
    obtain ⟨z3, rfl, hF, rfl⟩ := hv9
    refine lv_if_ne (tgt := 26) hx hb dX9_isOpen_19 (by decide) (fun cd => ?_) (fun cd => ?_)
    · have hF := hF.1 cd
      refine lv_iconst (v := 0) hx hb dX9_isOpen_26 (by decide) ?_
      exact zc_iret X hH hB rfl rfl ⟨_, rfl, hF, eh⟩ dX9_isOpen_27
    · have hF := hF.2 cd
      exact wc_X9_isOpen_22 X hN hT h hF _ _ _ _ _ hB eh (lv_sub hl [1] rfl) hH
set_option maxHeartbeats 1000000 in
theorem rv_isOpen_10 {p : Program} {l : Launch} {e : Env} {R : Room} {s : State} {m : MethodId} {args : Array Value} {below : List Frame} {meth : Method} {c : Code} {H : Heap} {locs : List Loc} {cells slots : Nat} {cc : ByteArray} {nL pc : Nat} {ret : Option FieldType} {own : String} {ls : Array Slot} {rest : List Value} {D : va_G} {cA : Nat → ClassId} {P : Nat → Prop} {G : Nat × Nat × Nat} {h : ZH} {C S a idx : Nat} {Q : Int32 → Prop} {v1 : Int32} {v2 : Int32} {v3 : Int32} (X : zc_Cx p l s m args meth c cc nL ret own D cA P G) (hH : zc_H D cA P h s H locs) (hlk : Cond.methodLink own idx ⟨"ChurchyardBook$Single", "isOpen", "(III)Z"⟩ ∈ lw_all) (hF : fv_isOpen_10 G a Q h v1 v2 v3) (hR : zc_rm R 5 11) (hsize : ls.size = nL) {st0 : List Value} (hst : st0 = ([.int v1, .int v2, .int v3] : List Value).reverse ++ .ref a :: rest) (hcat : (rest.map fun v => v.category).sum ≤ 8) (hdg : decode cc pc = .ok (.invokevirtual idx, 3)) (hf : cells + C ≤ R.cells ∧ slots + S ≤ R.slots) :
    vx_Run p l e R s m args below meth c H locs cells slots C S (F0 m pc ls st0) rest (zc_Q D cA P (fun v h' => ∃ z : Int32, v = some (.int z) ∧ Q z ∧ h = h') (Value.ref a :: [.int v1, .int v2, .int v3]).toArray) (zc_X D cA P zc_no) P := by
  unfold fv_isOpen_10 at hF
  have hR9 := hR
  obtain ⟨hc, hF⟩ := hF
  simp only [List.mem_cons, List.not_mem_nil, or_false] at hc
  rcases hc with hc | hc | hc | hc | hc | hc
  · have hF := hF (by rw [hc]; decide)
    exact zc_rU X hH hc (by decide) rfl (owner := "ChurchyardBook$Grave") (x := ⟨"ChurchyardBook$Single", "isOpen", "(III)Z"⟩) (As := [.int v1, .int v2, .int v3]) (wc_X9_isOpen X.2.2.2.2.2.2.2.1 hF) (lw_meth q1210) (X.2.2.2.2.1 _ hlk) (X.2.2.2.2.1 _ q1201) (zc_declC X q1209 q1210) (X.2.2.2.2.1 _ q1207) q1209 q114 ⟨by decide, by decide, rfl⟩ (zc_rm_le hR9 (by decide) (by decide)) rfl hsize hst hcat hdg hf
  · have hF := hF (by rw [hc]; decide)
    exact zc_rU X hH hc (by decide) rfl (owner := "ChurchyardBook$Grave") (x := ⟨"ChurchyardBook$Single", "isOpen", "(III)Z"⟩) (As := [.int v1, .int v2, .int v3]) (wc_X9_isOpen X.2.2.2.2.2.2.2.1 hF) (lw_meth q1210) (X.2.2.2.2.1 _ hlk) (X.2.2.2.2.1 _ q1201) (zc_declC X q1209 q1210) (X.2.2.2.2.1 _ q1204) q1209 q114 ⟨by decide, by decide, rfl⟩ (zc_rm_le hR9 (by decide) (by decide)) rfl hsize hst hcat hdg hf
  · have hF := hF (by rw [hc]; decide)
    exact zc_rU X hH hc (by decide) rfl (owner := "ChurchyardBook$Grave") (x := ⟨"ChurchyardBook$Single", "isOpen", "(III)Z"⟩) (As := [.int v1, .int v2, .int v3]) (wc_X9_isOpen X.2.2.2.2.2.2.2.1 hF) (lw_meth q1210) (X.2.2.2.2.1 _ hlk) (X.2.2.2.2.1 _ q1201) (zc_declC X q1209 q1210) (X.2.2.2.2.1 _ q1205) q1209 q114 ⟨by decide, by decide, rfl⟩ (zc_rm_le hR9 (by decide) (by decide)) rfl hsize hst hcat hdg hf
  · have hF := hF (by rw [hc]; decide)
    exact zc_rU X hH hc (by decide) rfl (owner := "ChurchyardBook$Grave") (x := ⟨"ChurchyardBook$Single", "isOpen", "(III)Z"⟩) (As := [.int v1, .int v2, .int v3]) (wc_X9_isOpen X.2.2.2.2.2.2.2.1 hF) (lw_meth q1210) (X.2.2.2.2.1 _ hlk) (X.2.2.2.2.1 _ q1201) (zc_declC X q1209 q1210) (X.2.2.2.2.1 _ q1208) q1209 q114 ⟨by decide, by decide, rfl⟩ (zc_rm_le hR9 (by decide) (by decide)) rfl hsize hst hcat hdg hf
  · have hF := hF (by rw [hc]; decide)
    exact zc_rU X hH hc (by decide) rfl (owner := "ChurchyardBook$Grave") (x := ⟨"ChurchyardBook$Single", "isOpen", "(III)Z"⟩) (As := [.int v1, .int v2, .int v3]) (wc_X9_isOpen X.2.2.2.2.2.2.2.1 hF) (lw_meth q1210) (X.2.2.2.2.1 _ hlk) (X.2.2.2.2.1 _ q1201) (zc_declC X q1209 q1210) (X.2.2.2.2.1 _ q1206) q1209 q114 ⟨by decide, by decide, rfl⟩ (zc_rm_le hR9 (by decide) (by decide)) rfl hsize hst hcat hdg hf
  · have hF := hF (by rw [hc]; decide)
    exact zc_rU X hH hc (by decide) rfl (owner := "ChurchyardBook$Grave") (x := ⟨"ChurchyardBook$Single", "isOpen", "(III)Z"⟩) (As := [.int v1, .int v2, .int v3]) (wc_X9_isOpen X.2.2.2.2.2.2.2.1 hF) (lw_meth q1210) (X.2.2.2.2.1 _ hlk) (X.2.2.2.2.1 _ q1201) (zc_declC X q1209 q1210) (X.2.2.2.2.1 _ q1203) q1209 q114 ⟨by decide, by decide, rfl⟩ (zc_rm_le hR9 (by decide) (by decide)) rfl hsize hst hcat hdg hf
set_option maxHeartbeats 1000000 in
theorem rv_isOpen_11 {p : Program} {l : Launch} {e : Env} {R : Room} {s : State} {m : MethodId} {args : Array Value} {below : List Frame} {meth : Method} {c : Code} {H : Heap} {locs : List Loc} {cells slots : Nat} {cc : ByteArray} {nL pc : Nat} {ret : Option FieldType} {own : String} {ls : Array Slot} {rest : List Value} {D : va_G} {cA : Nat → ClassId} {P : Nat → Prop} {G : Nat × Nat × Nat} {h : ZH} {C S a idx : Nat} {Q : Int32 → Prop} {v1 : Int32} {v2 : Int32} {v3 : Int32} (X : zc_Cx p l s m args meth c cc nL ret own D cA P G) (hH : zc_H D cA P h s H locs) (hlk : Cond.methodLink own idx ⟨"ChurchyardBook$Deep", "isOpen", "(III)Z"⟩ ∈ lw_all) (hF : fv_isOpen_11 G a Q h v1 v2 v3) (hR : zc_rm R 5 11) (hsize : ls.size = nL) {st0 : List Value} (hst : st0 = ([.int v1, .int v2, .int v3] : List Value).reverse ++ .ref a :: rest) (hcat : (rest.map fun v => v.category).sum ≤ 8) (hdg : decode cc pc = .ok (.invokevirtual idx, 3)) (hf : cells + C ≤ R.cells ∧ slots + S ≤ R.slots) :
    vx_Run p l e R s m args below meth c H locs cells slots C S (F0 m pc ls st0) rest (zc_Q D cA P (fun v h' => ∃ z : Int32, v = some (.int z) ∧ Q z ∧ h = h') (Value.ref a :: [.int v1, .int v2, .int v3]).toArray) (zc_X D cA P zc_no) P := by
  unfold fv_isOpen_11 at hF
  have hR9 := hR
  obtain ⟨hc, hF⟩ := hF
  simp only [List.mem_cons, List.not_mem_nil, or_false] at hc
  rcases hc with hc | hc
  · have hF := hF (by rw [hc]; decide)
    exact zc_rU X hH hc (by decide) rfl (owner := "ChurchyardBook$Grave") (x := ⟨"ChurchyardBook$Deep", "isOpen", "(III)Z"⟩) (As := [.int v1, .int v2, .int v3]) (wc_X9_isOpen X.2.2.2.2.2.2.2.1 hF) (lw_meth q1210) (X.2.2.2.2.1 _ hlk) (X.2.2.2.2.1 _ q1230) (zc_declC X q1209 q1210) (X.2.2.2.2.1 _ q1231) q1209 q114 ⟨by decide, by decide, rfl⟩ (zc_rm_le hR9 (by decide) (by decide)) rfl hsize hst hcat hdg hf
  · have hF := hF (by rw [hc]; decide)
    exact zc_rU X hH hc (by decide) rfl (owner := "ChurchyardBook$Grave") (x := ⟨"ChurchyardBook$Deep", "isOpen", "(III)Z"⟩) (As := [.int v1, .int v2, .int v3]) (wc_X9_isOpen X.2.2.2.2.2.2.2.1 hF) (lw_meth q1210) (X.2.2.2.2.1 _ hlk) (X.2.2.2.2.1 _ q1230) (zc_declC X q1209 q1210) (X.2.2.2.2.1 _ q1232) q1209 q114 ⟨by decide, by decide, rfl⟩ (zc_rm_le hR9 (by decide) (by decide)) rfl hsize hst hcat hdg hf
set_option maxHeartbeats 4000000 in
set_option maxRecDepth 100000 in
theorem wc_X10_room {l : Launch} {D : va_G} {cA : Nat → ClassId} {P : Nat → Prop} {G : Nat × Nat × Nat} {o : Nat} {Q : Int32 → Prop} {h : ZH} {C S : Nat} {v1 : Int32} {v2 : Int32} (hl9 : l.stackTraces = false) (hF : fc_X10_room G o Q h v1 v2) :
    zc_M l yX10_room (ws_ yX10_room cX10_room 3 (some .int)) 6 D cA P G [.ref o, .int v1, .int v2] h C S (fun v h' => ∃ z : Int32, v = some (.int z) ∧ Q z ∧ h = h') zc_no := by
  refine zc_ofF hl9 rfl (by decide +kernel) (Nat.le_of_ble_eq_true rfl) ?_
  intro p e s m args below meth c H locs ls X hN hT hH hl
  have hx := X.1
  have hb := X.2.1
  have hown := X.2.2.2.1
  have hts := X.2.2.2.2.1
  have hl : lv_has ls 3 [(0, .ref o), (1, .int v1), (2, .int v2)] := hl
  have hB : 0 + 0 ≤ C ∧ 0 + 0 ≤ S := ⟨by omega, by omega⟩
  have eh : h = h := rfl
  unfold fc_X10_room at hF
  refine lv_aload_n hx hb dX10_room_0 rfl (lv_at hl 0 rfl) ?_
  refine lv_iload_n hx hb dX10_room_1 rfl (lv_at hl 1 rfl) ?_
  refine lv_iconst (v := 0) hx hb dX10_room_2 (by decide) ?_
  refine lv_iload_n hx hb dX10_room_3 rfl (lv_at hl 2 rfl) ?_
  refine zc_call (c1 := 0) (s1 := 0) (rest := []) hH hB (Nat.zero_le _) (Nat.zero_le _) (fun hf => rv_isOpen_10 X hH q1200 hF ⟨Nat.le_of_ble_eq_true rfl, Nat.le_of_ble_eq_true rfl, Nat.le_of_ble_eq_true rfl⟩ hl.1 (st0 := [.int v2, .int 0, .int v1, .ref o]) rfl (Nat.le_of_ble_eq_true rfl) dX10_room_4 hf) (fun E9 ce9 q9 h9 H locs hx9 => False.elim hx9) (fun v9 h9 H locs hv9 hH hB => ?_)
  obtain ⟨z1, rfl, hF, rfl⟩ := hv9
  refine lv_if_eq (tgt := 14) hx hb dX10_room_7 (by decide) (fun cd => ?_) (fun cd => ?_)
  · have hF := hF.1 cd
    refine lv_iconst (v := (-1)) hx hb dX10_room_14 (by decide) ?_
    exact zc_iret X hH hB rfl rfl ⟨_, rfl, hF, eh⟩ dX10_room_15
  · have hF := hF.2 cd
    refine lv_iconst (v := 0) hx hb dX10_room_10 (by decide) ?_
    refine lv_goto (tgt := 15) hx hb dX10_room_11 (by decide) ?_
    exact zc_iret X hH hB rfl rfl ⟨_, rfl, hF, eh⟩ dX10_room_15
set_option maxHeartbeats 4000000 in
set_option maxRecDepth 100000 in
theorem wc_X11_room {l : Launch} {D : va_G} {cA : Nat → ClassId} {P : Nat → Prop} {G : Nat × Nat × Nat} {o : Nat} {Q : Int32 → Prop} {h : ZH} {C S : Nat} {v1 : Int32} {v2 : Int32} (hl9 : l.stackTraces = false) (hF : fc_X11_room G o Q h v1 v2) :
    zc_M l yX11_room (ws_ yX11_room cX11_room 4 (some .int)) 7 D cA P G [.ref o, .int v1, .int v2] h C S (fun v h' => ∃ z : Int32, v = some (.int z) ∧ Q z ∧ h = h') zc_no := by
  refine zc_ofF hl9 rfl (by decide +kernel) (Nat.le_of_ble_eq_true rfl) ?_
  intro p e s m args below meth c H locs ls X hN hT hH hl
  have hx := X.1
  have hb := X.2.1
  have hown := X.2.2.2.1
  have hts := X.2.2.2.2.1
  have hl : lv_has ls 4 [(0, .ref o), (1, .int v1), (2, .int v2)] := hl
  have hB : 0 + 0 ≤ C ∧ 0 + 0 ≤ S := ⟨by omega, by omega⟩
  have eh : h = h := rfl
  unfold fc_X11_room at hF
  refine lv_aload_n hx hb dX11_room_0 rfl (lv_at hl 0 rfl) ?_
  refine lv_iload_n hx hb dX11_room_1 rfl (lv_at hl 1 rfl) ?_
  refine lv_iload_n hx hb dX11_room_2 rfl (lv_at hl 2 rfl) ?_
  obtain ⟨hc, hF⟩ := hF
  obtain ⟨hc9, hc8⟩ : zt h o ≠ 0 ∧ zt h o < 20 := by simp only [List.mem_cons, List.not_mem_nil, or_false] at hc; omega
  refine zc_call (c1 := 0) (s1 := 0) (rest := []) hH hB (Nat.zero_le _) (Nat.zero_le _) (fun hf => zc_rSU X hH rfl hc9 hc8 rfl (As := [.int v1, .int v2]) (wc_X10_room X.2.2.2.2.2.2.2.1 hF) (lw_SU q1228 q2239 q756 q1198 q115 q1199) ⟨by decide, rfl⟩ ⟨Nat.le_of_ble_eq_true rfl, Nat.le_of_ble_eq_true rfl, Nat.le_of_ble_eq_true rfl⟩ rfl hl.1 (st0 := [.int v2, .int v1, .ref o]) rfl (Nat.le_of_ble_eq_true rfl) dX11_room_3 hf) (fun E9 ce9 q9 h9 H locs hx9 => False.elim hx9) (fun v9 h9 H locs hv9 hH hB => ?_)
  obtain ⟨z1, rfl, hF, rfl⟩ := hv9
  refine lv_istore_n (lv' := [(3, .int z1), (0, .ref o), (1, .int v1), (2, .int v2)]) hx hb dX11_room_6 rfl hl (by decide) rfl (fun ls hl => ?_)
  refine lv_iload_n hx hb dX11_room_7 rfl (lv_at hl 0 rfl) ?_
  refine lv_if_ne (tgt := 25) hx hb dX11_room_8 (by decide) (fun cd => ?_) (fun cd => ?_)
  · have hF := hF.1 cd
    refine lv_iload_n hx hb dX11_room_25 rfl (lv_at hl 0 rfl) ?_
    exact zc_iret X hH hB rfl rfl ⟨_, rfl, hF, eh⟩ dX11_room_26
  · have hF := hF.2 cd
    refine lv_aload_n hx hb dX11_room_11 rfl (lv_at hl 1 rfl) ?_
    refine lv_iload_n hx hb dX11_room_12 rfl (lv_at hl 2 rfl) ?_
    refine lv_iconst (v := 1) hx hb dX11_room_13 (by decide) ?_
    refine lv_iload_n hx hb dX11_room_14 rfl (lv_at hl 3 rfl) ?_
    refine zc_call (c1 := 0) (s1 := 0) (rest := []) hH hB (Nat.zero_le _) (Nat.zero_le _) (fun hf => rv_isOpen_11 X hH q1229 hF ⟨Nat.le_of_ble_eq_true rfl, Nat.le_of_ble_eq_true rfl, Nat.le_of_ble_eq_true rfl⟩ hl.1 (st0 := [.int v2, .int 1, .int v1, .ref o]) rfl (Nat.le_of_ble_eq_true rfl) dX11_room_15 hf) (fun E9 ce9 q9 h9 H locs hx9 => False.elim hx9) (fun v9 h9 H locs hv9 hH hB => ?_)
    obtain ⟨z2, rfl, hF, rfl⟩ := hv9
    refine lv_if_eq (tgt := 25) hx hb dX11_room_18 (by decide) (fun cd => ?_) (fun cd => ?_)
    · have hF := hF.1 cd
      refine lv_iload_n hx hb dX11_room_25 rfl (lv_at hl 0 rfl) ?_
      exact zc_iret X hH hB rfl rfl ⟨_, rfl, hF, eh⟩ dX11_room_26
    · have hF := hF.2 cd
      refine lv_iconst (v := 1) hx hb dX11_room_21 (by decide) ?_
      refine lv_goto (tgt := 26) hx hb dX11_room_22 (by decide) ?_
      exact zc_iret X hH hB rfl rfl ⟨_, rfl, hF, eh⟩ dX11_room_26
set_option maxHeartbeats 4000000 in
set_option maxRecDepth 100000 in
theorem wc_X13_room {l : Launch} {D : va_G} {cA : Nat → ClassId} {P : Nat → Prop} {G : Nat × Nat × Nat} {o : Nat} {Q : Int32 → Prop} {h : ZH} {C S : Nat} {v1 : Int32} {v2 : Int32} (hl9 : l.stackTraces = false) (hF : fc_X13_room G o Q h v1 v2) :
    zc_M l yX13_room (ws_ yX13_room cX13_room 3 (some .int)) 5 D cA P G [.ref o, .int v1, .int v2] h C S (fun v h' => ∃ z : Int32, v = some (.int z) ∧ Q z ∧ h = h') zc_no := by
  refine zc_ofF hl9 rfl (by decide +kernel) (Nat.le_of_ble_eq_true rfl) ?_
  intro p e s m args below meth c H locs ls X hN hT hH hl
  have hx := X.1
  have hb := X.2.1
  have hown := X.2.2.2.1
  have hts := X.2.2.2.2.1
  have hl : lv_has ls 3 [(0, .ref o), (1, .int v1), (2, .int v2)] := hl
  have hB : 0 + 0 ≤ C ∧ 0 + 0 ≤ S := ⟨by omega, by omega⟩
  have eh : h = h := rfl
  unfold fc_X13_room at hF
  refine lv_aload_n hx hb dX13_room_0 rfl (lv_at hl 0 rfl) ?_
  refine lv_iload_n hx hb dX13_room_1 rfl (lv_at hl 1 rfl) ?_
  refine lv_iconst (v := 0) hx hb dX13_room_2 (by decide) ?_
  refine zc_call (c1 := 0) (s1 := 0) (rest := []) hH hB (Nat.zero_le _) (Nat.zero_le _) (fun hf => rv_in_12 X hH q1242 hF ⟨Nat.le_of_ble_eq_true rfl, Nat.le_of_ble_eq_true rfl, Nat.le_of_ble_eq_true rfl⟩ hl.1 (st0 := [.int 0, .int v1, .ref o]) rfl (Nat.le_of_ble_eq_true rfl) dX13_room_3 hf) (fun E9 ce9 q9 h9 H locs hx9 => False.elim hx9) (fun v9 h9 H locs hv9 hH hB => ?_)
  obtain ⟨r1, rfl, hF, rfl⟩ := hv9
  refine zq_ifnonnull (tgt := 13) hx hb dX13_room_6 (by decide) (fun b2 eb2 => ?_) (fun cd => ?_)
  · have hF := hF.2 b2 eb2
    refine lv_iconst (v := (-1)) hx hb dX13_room_13 (by decide) ?_
    exact zc_iret X hH hB rfl rfl ⟨_, rfl, hF, eh⟩ dX13_room_14
  · have hF := hF.1 cd
    refine lv_iconst (v := 0) hx hb dX13_room_9 (by decide) ?_
    refine lv_goto (tgt := 14) hx hb dX13_room_10 (by decide) ?_
    exact zc_iret X hH hB rfl rfl ⟨_, rfl, hF, eh⟩ dX13_room_14
set_option maxHeartbeats 4000000 in
set_option maxRecDepth 100000 in
theorem wc_X14_room {l : Launch} {D : va_G} {cA : Nat → ClassId} {P : Nat → Prop} {G : Nat × Nat × Nat} {o : Nat} {Q : Int32 → Prop} {h : ZH} {C S : Nat} {v1 : Int32} {v2 : Int32} (hl9 : l.stackTraces = false) (hF : fc_X14_room G o Q h v1 v2) :
    zc_M l yX14_room (ws_ yX14_room cX14_room 3 (some .int)) 2 D cA P G [.ref o, .int v1, .int v2] h C S (fun v h' => ∃ z : Int32, v = some (.int z) ∧ Q z ∧ h = h') zc_no := by
  refine zc_ofF hl9 rfl (by decide +kernel) (Nat.le_of_ble_eq_true rfl) ?_
  intro p e s m args below meth c H locs ls X hN hT hH hl
  have hx := X.1
  have hb := X.2.1
  have hown := X.2.2.2.1
  have hts := X.2.2.2.2.1
  have hl : lv_has ls 3 [(0, .ref o), (1, .int v1), (2, .int v2)] := hl
  have hB : 0 + 0 ≤ C ∧ 0 + 0 ≤ S := ⟨by omega, by omega⟩
  have eh : h = h := rfl
  unfold fc_X14_room at hF
  refine lv_aload_n hx hb dX14_room_0 rfl (lv_at hl 0 rfl) ?_
  obtain ⟨hc, hF⟩ := hF
  refine zc_getf X hH hc 15 615 ("ChurchyardBook$Grave", "lying", "Ljava/util/ArrayList;", true) (by decide +kernel) (v := va_rf (zr h 615 o)) rfl q696 (Or.inr q697) dX14_room_1 ?_
  obtain ⟨b1, eb1, hF⟩ := hF
  refine zq_st (st2 := [.ref b1]) (by rw [eb1]; first | done | rfl) ?_
  obtain ⟨hc, hF⟩ := hF
  refine zc_call (c1 := 0) (s1 := 0) (rest := []) hH hB (Nat.zero_le _) (Nat.zero_le _) (fun hf => zc_rV X hH hc (by decide) rfl (As := []) (wc_J2_size X.2.2.2.2.2.2.2.1 hF) (lw_V q1237 q350 q351 q94 q352) ⟨rfl, by decide, by decide, rfl⟩ ⟨Nat.le_of_ble_eq_true rfl, Nat.le_of_ble_eq_true rfl, Nat.le_of_ble_eq_true rfl⟩ rfl hl.1 (st0 := [.ref b1]) rfl (Nat.le_of_ble_eq_true rfl) dX14_room_4 hf) (fun E9 ce9 q9 h9 H locs hx9 => False.elim hx9) (fun v9 h9 H locs hv9 hH hB => ?_)
  obtain ⟨z2, rfl, hF, rfl⟩ := hv9
  refine lv_bipush (v := 40) hx hb dX14_room_7 (by decide) ?_
  refine lv_icmp_ge (tgt := 16) hx hb dX14_room_9 (by decide) (fun cd => ?_) (fun cd => ?_)
  · have hF := hF.1 cd
    refine lv_iconst (v := (-1)) hx hb dX14_room_16 (by decide) ?_
    exact zc_iret X hH hB rfl rfl ⟨_, rfl, hF, eh⟩ dX14_room_17
  · have hF := hF.2 cd
    refine lv_iconst (v := 0) hx hb dX14_room_12 (by decide) ?_
    refine lv_goto (tgt := 17) hx hb dX14_room_13 (by decide) ?_
    exact zc_iret X hH hB rfl rfl ⟨_, rfl, hF, eh⟩ dX14_room_17
set_option maxHeartbeats 1000000 in
theorem rv_room_15 {p : Program} {l : Launch} {e : Env} {R : Room} {s : State} {m : MethodId} {args : Array Value} {below : List Frame} {meth : Method} {c : Code} {H : Heap} {locs : List Loc} {cells slots : Nat} {cc : ByteArray} {nL pc : Nat} {ret : Option FieldType} {own : String} {ls : Array Slot} {rest : List Value} {D : va_G} {cA : Nat → ClassId} {P : Nat → Prop} {G : Nat × Nat × Nat} {h : ZH} {C S a idx : Nat} {Q : Int32 → Prop} {v1 : Int32} {v2 : Int32} (X : zc_Cx p l s m args meth c cc nL ret own D cA P G) (hH : zc_H D cA P h s H locs) (hlk : Cond.methodLink own idx ⟨"ChurchyardBook$Grave", "room", "(II)I"⟩ ∈ lw_all) (hF : fv_room_15 G a Q h v1 v2) (hR : zc_rm R 7 11) (hsize : ls.size = nL) {st0 : List Value} (hst : st0 = ([.int v1, .int v2] : List Value).reverse ++ .ref a :: rest) (hcat : (rest.map fun v => v.category).sum ≤ 8) (hdg : decode cc pc = .ok (.invokevirtual idx, 3)) (hf : cells + C ≤ R.cells ∧ slots + S ≤ R.slots) :
    vx_Run p l e R s m args below meth c H locs cells slots C S (F0 m pc ls st0) rest (zc_Q D cA P (fun v h' => ∃ z : Int32, v = some (.int z) ∧ Q z ∧ h = h') (Value.ref a :: [.int v1, .int v2]).toArray) (zc_X D cA P zc_no) P := by
  unfold fv_room_15 at hF
  have hR9 := hR
  obtain ⟨hc, hF⟩ := hF
  simp only [List.mem_cons, List.not_mem_nil, or_false] at hc
  rcases hc with hc | hc | hc | hc | hc | hc
  · have hF := hF.1 (by rw [hc]; decide)
    exact zc_rU X hH hc (by decide) rfl (owner := "ChurchyardBook$Grave") (x := ⟨"ChurchyardBook$Grave", "room", "(II)I"⟩) (As := [.int v1, .int v2]) (wc_X10_room X.2.2.2.2.2.2.2.1 hF) (lw_meth q1199) (X.2.2.2.2.1 _ hlk) (X.2.2.2.2.1 _ q1196) (zc_declA X (by decide +kernel)) (X.2.2.2.2.1 _ q1238) q1198 q115 ⟨by decide, by decide, rfl⟩ (zc_rm_le hR9 (by decide) (by decide)) rfl hsize hst hcat hdg hf
  · have hF := hF.2.1 (by rw [hc]; decide)
    exact zc_rU X hH hc (by decide) rfl (owner := "ChurchyardBook$Grave") (x := ⟨"ChurchyardBook$Grave", "room", "(II)I"⟩) (As := [.int v1, .int v2]) (wc_X11_room X.2.2.2.2.2.2.2.1 hF) (lw_meth q1227) (X.2.2.2.2.1 _ hlk) (X.2.2.2.2.1 _ q1196) (zc_declA X (by decide +kernel)) (X.2.2.2.2.1 _ q1225) q1226 q116 ⟨by decide, by decide, rfl⟩ (zc_rm_le hR9 (by decide) (by decide)) rfl hsize hst hcat hdg hf
  · have hF := hF.2.1 (by rw [hc]; decide)
    exact zc_rU X hH hc (by decide) rfl (owner := "ChurchyardBook$Grave") (x := ⟨"ChurchyardBook$Grave", "room", "(II)I"⟩) (As := [.int v1, .int v2]) (wc_X11_room X.2.2.2.2.2.2.2.1 hF) (lw_meth q1227) (X.2.2.2.2.1 _ hlk) (X.2.2.2.2.1 _ q1196) (zc_declA X (by decide +kernel)) (X.2.2.2.2.1 _ q1233) q1226 q116 ⟨by decide, by decide, rfl⟩ (zc_rm_le hR9 (by decide) (by decide)) rfl hsize hst hcat hdg hf
  · have hF := hF.2.2.1 (by rw [hc]; decide)
    exact zc_rU X hH hc (by decide) rfl (owner := "ChurchyardBook$Grave") (x := ⟨"ChurchyardBook$Grave", "room", "(II)I"⟩) (As := [.int v1, .int v2]) (wc_X13_room X.2.2.2.2.2.2.2.1 hF) (lw_meth q1241) (X.2.2.2.2.1 _ hlk) (X.2.2.2.2.1 _ q1196) (zc_declA X (by decide +kernel)) (X.2.2.2.2.1 _ q1239) q1240 q118 ⟨by decide, by decide, rfl⟩ (zc_rm_le hR9 (by decide) (by decide)) rfl hsize hst hcat hdg hf
  · have hF := hF.2.2.2 (by rw [hc]; decide)
    exact zc_rU X hH hc (by decide) rfl (owner := "ChurchyardBook$Grave") (x := ⟨"ChurchyardBook$Grave", "room", "(II)I"⟩) (As := [.int v1, .int v2]) (wc_X14_room X.2.2.2.2.2.2.2.1 hF) (lw_meth q1236) (X.2.2.2.2.1 _ hlk) (X.2.2.2.2.1 _ q1196) (zc_declA X (by decide +kernel)) (X.2.2.2.2.1 _ q1234) q1235 q119 ⟨by decide, by decide, rfl⟩ (zc_rm_le hR9 (by decide) (by decide)) rfl hsize hst hcat hdg hf
  · have hF := hF.1 (by rw [hc]; decide)
    exact zc_rU X hH hc (by decide) rfl (owner := "ChurchyardBook$Grave") (x := ⟨"ChurchyardBook$Grave", "room", "(II)I"⟩) (As := [.int v1, .int v2]) (wc_X10_room X.2.2.2.2.2.2.2.1 hF) (lw_meth q1199) (X.2.2.2.2.1 _ hlk) (X.2.2.2.2.1 _ q1196) (zc_declA X (by decide +kernel)) (X.2.2.2.2.1 _ q1197) q1198 q115 ⟨by decide, by decide, rfl⟩ (zc_rm_le hR9 (by decide) (by decide)) rfl hsize hst hcat hdg hf
set_option maxHeartbeats 4000000 in
set_option maxRecDepth 100000 in
theorem wc_X9_isAgreed_78 {p : Program} {l : Launch} {e : Env} {s : State} {m : MethodId} {args : Array Value} {below : List Frame} {meth : Method} {c : Code} {D : va_G} {cA : Nat → ClassId} {P : Nat → Prop} {G : Nat × Nat × Nat} {C S : Nat} {o : Nat} {Q : Int32 → Prop} {h0 : ZH} (X : zc_Cx p l s m args meth c cX9_isAgreed 3 (some .boolean) "ChurchyardBook$Grave" D cA P G) (hN : meth.name = "isAgreed") (hT : c.exceptionTable.toList = tableOf []) :
    ∀ (h : ZH), fc_X9_isAgreed_78 G o Q h → ∀ (H : Heap) (locs : List Loc) (ls : Array Slot) (cells slots : Nat), cells + 0 ≤ C ∧ slots + 0 ≤ S → h0 = h → lv_has ls 3 [(0, .ref o)] → zc_H D cA P h s H locs → W p l e (zc_Ro 2 C S) s m args below meth c H locs cells slots (vx_MQ below (zc_Q D cA P (fun v h' => ∃ z : Int32, v = some (.int z) ∧ Q z ∧ h0 = h')) (zc_X D cA P zc_no) args s C S P) (F0 m 78 ls []) := by
  have hx := X.1
  have hb := X.2.1
  have hown := X.2.2.2.1
  have hts := X.2.2.2.2.1
  intro h hF
  intro H locs ls cells slots hB eh hl hH
  unfold fc_X9_isAgreed_78 at hF
  refine lv_iconst (v := 1) hx hb dX9_isAgreed_78 (by decide) ?_
  refine lv_goto (tgt := 83) hx hb dX9_isAgreed_79 (by decide) ?_
  exact zc_iret X hH hB rfl rfl ⟨_, rfl, hF, eh⟩ dX9_isAgreed_83
set_option maxHeartbeats 4000000 in
set_option maxRecDepth 100000 in
theorem wc_X9_isAgreed_51 {p : Program} {l : Launch} {e : Env} {s : State} {m : MethodId} {args : Array Value} {below : List Frame} {meth : Method} {c : Code} {D : va_G} {cA : Nat → ClassId} {P : Nat → Prop} {G : Nat × Nat × Nat} {C S : Nat} {o : Nat} {Q : Int32 → Prop} {h0 : ZH} (X : zc_Cx p l s m args meth c cX9_isAgreed 3 (some .boolean) "ChurchyardBook$Grave" D cA P G) (hN : meth.name = "isAgreed") (hT : c.exceptionTable.toList = tableOf []) :
    ∀ (h : ZH) (q1 : Option Nat) (t0 : Int32), fc_X9_isAgreed_51 G o Q h q1 t0 → ∀ (H : Heap) (locs : List Loc) (ls : Array Slot) (cells slots : Nat), cells + 0 ≤ C ∧ slots + 0 ≤ S → h0 = h → lv_has ls 3 [(0, .ref o), (1, va_rf q1)] → zc_H D cA P h s H locs → W p l e (zc_Ro 2 C S) s m args below meth c H locs cells slots (vx_MQ below (zc_Q D cA P (fun v h' => ∃ z : Int32, v = some (.int z) ∧ Q z ∧ h0 = h')) (zc_X D cA P zc_no) args s C S P) (F0 m 51 ls [.int t0]) := by
  have hx := X.1
  have hb := X.2.1
  have hown := X.2.2.2.1
  have hts := X.2.2.2.2.1
  intro h q1 t0 hF
  intro H locs ls cells slots hB eh hl hH
  unfold fc_X9_isAgreed_51 at hF
  refine lv_istore_n (lv' := [(2, .int t0), (0, .ref o), (1, va_rf q1)]) hx hb dX9_isAgreed_51 rfl hl (by decide) (by cases q1 <;> rfl) (fun ls hl => ?_)
  refine lv_iload_n hx hb dX9_isAgreed_52 rfl (lv_at hl 0 rfl) ?_
  refine lv_if_ne (tgt := 78) hx hb dX9_isAgreed_53 (by decide) (fun cd => ?_) (fun cd => ?_)
  · have hF := hF.1 cd
    exact wc_X9_isAgreed_78 X hN hT h hF _ _ _ _ _ hB eh (lv_sub hl [1] rfl) hH
  · have hF := hF.2 cd
    refine lv_aload_n hx hb dX9_isAgreed_56 rfl (lv_at hl 1 rfl) ?_
    obtain ⟨hc, hF⟩ := hF
    refine zc_getf X hH hc 7 607 ("ChurchyardBook$Grave", "holder", "LChurchyardBook$Person;", false) (by decide +kernel) (v := va_rf (zr h 607 o)) rfl q674 (Or.inl rfl) dX9_isAgreed_57 ?_
    refine zq_aload_n hx hb dX9_isAgreed_60 rfl (lv_at hl 2 rfl) ?_
    obtain ⟨b1, eb1, hF⟩ := hF
    refine zq_st (st2 := [va_rf q1, .ref b1]) (by rw [eb1]; first | done | rfl) ?_
    obtain ⟨hc, hF⟩ := hF
    refine zc_call (c1 := 0) (s1 := 0) (rest := []) hH hB (Nat.zero_le _) (Nat.zero_le _) (fun hf => zc_rV X hH hc (by decide) rfl (As := [va_rf q1]) (wc_X16_isParentOf X.2.2.2.2.2.2.2.1 hF) (lw_V q1257 q942 q943 q121 q944) ⟨rfl, by decide, by decide, rfl⟩ ⟨Nat.le_of_ble_eq_true rfl, Nat.le_of_ble_eq_true rfl, Nat.le_of_ble_eq_true rfl⟩ rfl hl.1 (st0 := [va_rf q1, .ref b1]) rfl (Nat.le_of_ble_eq_true rfl) dX9_isAgreed_61 hf) (fun E9 ce9 q9 h9 H locs hx9 => False.elim hx9) (fun v9 h9 H locs hv9 hH hB => ?_)
    obtain ⟨z2, rfl, hF, rfl⟩ := hv9
    refine lv_if_ne (tgt := 78) hx hb dX9_isAgreed_64 (by decide) (fun cd => ?_) (fun cd => ?_)
    · have hF := hF.1 cd
      exact wc_X9_isAgreed_78 X hN hT h hF _ _ _ _ _ hB eh (lv_sub hl [1] rfl) hH
    · have hF := hF.2 cd
      refine zq_aload_n hx hb dX9_isAgreed_67 rfl (lv_at hl 2 rfl) ?_
      refine lv_aload_n hx hb dX9_isAgreed_68 rfl (lv_at hl 1 rfl) ?_
      obtain ⟨hc, hF⟩ := hF
      refine zc_getf X hH hc 7 607 ("ChurchyardBook$Grave", "holder", "LChurchyardBook$Person;", false) (by decide +kernel) (v := va_rf (zr h 607 o)) rfl q674 (Or.inl rfl) dX9_isAgreed_69 ?_
      obtain ⟨b3, eb3, hF⟩ := hF
      refine zq_st (st2 := [va_rf (zr h 607 o), .ref b3]) (by rw [eb3]; first | done | rfl) ?_
      obtain ⟨hc, hF⟩ := hF
      refine zc_call (c1 := 0) (s1 := 0) (rest := []) hH hB (Nat.zero_le _) (Nat.zero_le _) (fun hf => zc_rV X hH hc (by decide) rfl (As := [va_rf (zr h 607 o)]) (wc_X16_isParentOf X.2.2.2.2.2.2.2.1 hF) (lw_V q1257 q942 q943 q121 q944) ⟨rfl, by decide, by decide, rfl⟩ ⟨Nat.le_of_ble_eq_true rfl, Nat.le_of_ble_eq_true rfl, Nat.le_of_ble_eq_true rfl⟩ rfl hl.1 (st0 := [va_rf (zr h 607 o), .ref b3]) rfl (Nat.le_of_ble_eq_true rfl) dX9_isAgreed_72 hf) (fun E9 ce9 q9 h9 H locs hx9 => False.elim hx9) (fun v9 h9 H locs hv9 hH hB => ?_)
      obtain ⟨z4, rfl, hF, rfl⟩ := hv9
      refine lv_if_eq (tgt := 82) hx hb dX9_isAgreed_75 (by decide) (fun cd => ?_) (fun cd => ?_)
      · have hF := hF.1 cd
        refine lv_iconst (v := 0) hx hb dX9_isAgreed_82 (by decide) ?_
        exact zc_iret X hH hB rfl rfl ⟨_, rfl, hF, eh⟩ dX9_isAgreed_83
      · have hF := hF.2 cd
        exact wc_X9_isAgreed_78 X hN hT h hF _ _ _ _ _ hB eh (lv_sub hl [1] rfl) hH
set_option maxHeartbeats 4000000 in
set_option maxRecDepth 100000 in
theorem wc_X9_isAgreed_46 {p : Program} {l : Launch} {e : Env} {s : State} {m : MethodId} {args : Array Value} {below : List Frame} {meth : Method} {c : Code} {D : va_G} {cA : Nat → ClassId} {P : Nat → Prop} {G : Nat × Nat × Nat} {C S : Nat} {o : Nat} {Q : Int32 → Prop} {h0 : ZH} (X : zc_Cx p l s m args meth c cX9_isAgreed 3 (some .boolean) "ChurchyardBook$Grave" D cA P G) (hN : meth.name = "isAgreed") (hT : c.exceptionTable.toList = tableOf []) :
    ∀ (h : ZH) (q1 : Option Nat), fc_X9_isAgreed_46 G o Q h q1 → ∀ (H : Heap) (locs : List Loc) (ls : Array Slot) (cells slots : Nat), cells + 0 ≤ C ∧ slots + 0 ≤ S → h0 = h → lv_has ls 3 [(0, .ref o), (1, va_rf q1)] → zc_H D cA P h s H locs → W p l e (zc_Ro 2 C S) s m args below meth c H locs cells slots (vx_MQ below (zc_Q D cA P (fun v h' => ∃ z : Int32, v = some (.int z) ∧ Q z ∧ h0 = h')) (zc_X D cA P zc_no) args s C S P) (F0 m 46 ls []) := by
  have hx := X.1
  have hb := X.2.1
  have hown := X.2.2.2.1
  have hts := X.2.2.2.2.1
  intro h q1 hF
  intro H locs ls cells slots hB eh hl hH
  unfold fc_X9_isAgreed_46 at hF
  refine lv_iconst (v := 1) hx hb dX9_isAgreed_46 (by decide) ?_
  refine lv_goto (tgt := 51) hx hb dX9_isAgreed_47 (by decide) ?_
  exact wc_X9_isAgreed_51 X hN hT h q1 1 hF _ _ _ _ _ hB eh (lv_sub hl [0, 1] rfl) hH
set_option maxHeartbeats 4000000 in
set_option maxRecDepth 100000 in
theorem wc_X9_isAgreed_19 {p : Program} {l : Launch} {e : Env} {s : State} {m : MethodId} {args : Array Value} {below : List Frame} {meth : Method} {c : Code} {D : va_G} {cA : Nat → ClassId} {P : Nat → Prop} {G : Nat × Nat × Nat} {C S : Nat} {o : Nat} {Q : Int32 → Prop} {h0 : ZH} (X : zc_Cx p l s m args meth c cX9_isAgreed 3 (some .boolean) "ChurchyardBook$Grave" D cA P G) (hN : meth.name = "isAgreed") (hT : c.exceptionTable.toList = tableOf []) :
    ∀ (h : ZH) (q1 : Option Nat), fc_X9_isAgreed_19 G o Q h q1 → ∀ (H : Heap) (locs : List Loc) (ls : Array Slot) (cells slots : Nat), cells + 0 ≤ C ∧ slots + 0 ≤ S → h0 = h → lv_has ls 3 [(0, .ref o), (1, va_rf q1)] → zc_H D cA P h s H locs → W p l e (zc_Ro 2 C S) s m args below meth c H locs cells slots (vx_MQ below (zc_Q D cA P (fun v h' => ∃ z : Int32, v = some (.int z) ∧ Q z ∧ h0 = h')) (zc_X D cA P zc_no) args s C S P) (F0 m 19 ls []) := by
  have hx := X.1
  have hb := X.2.1
  have hown := X.2.2.2.1
  have hts := X.2.2.2.2.1
  intro h q1 hF
  intro H locs ls cells slots hB eh hl hH
  unfold fc_X9_isAgreed_19 at hF
  refine zq_aload_n hx hb dX9_isAgreed_19 rfl (lv_at hl 1 rfl) ?_
  refine lv_aload_n hx hb dX9_isAgreed_20 rfl (lv_at hl 0 rfl) ?_
  obtain ⟨hc, hF⟩ := hF
  refine zc_getf X hH hc 14 614 ("ChurchyardBook$Grave", "from", "LChurchyardBook$Person;", false) (by decide +kernel) (v := va_rf (zr h 614 o)) rfl q693 (Or.inl rfl) dX9_isAgreed_21 ?_
  refine lv_acmp_eq (rx := q1) (ry := (zr h 614 o)) (tgt := 46) hx hb dX9_isAgreed_24 (by decide) (fun cd => ?_) (fun cd => ?_)
  · have hF := hF.1 cd
    exact wc_X9_isAgreed_46 X hN hT h q1 hF _ _ _ _ _ hB eh (lv_sub hl [0, 1] rfl) hH
  · have hF := hF.2 cd
    refine zq_aload_n hx hb dX9_isAgreed_27 rfl (lv_at hl 1 rfl) ?_
    refine lv_aload_n hx hb dX9_isAgreed_28 rfl (lv_at hl 0 rfl) ?_
    obtain ⟨hc, hF⟩ := hF
    refine zc_getf X hH hc 7 607 ("ChurchyardBook$Grave", "holder", "LChurchyardBook$Person;", false) (by decide +kernel) (v := va_rf (zr h 607 o)) rfl q674 (Or.inl rfl) dX9_isAgreed_29 ?_
    refine lv_acmp_eq (rx := q1) (ry := (zr h 607 o)) (tgt := 46) hx hb dX9_isAgreed_32 (by decide) (fun cd => ?_) (fun cd => ?_)
    · have hF := hF.1 cd
      exact wc_X9_isAgreed_46 X hN hT h q1 hF _ _ _ _ _ hB eh (lv_sub hl [0, 1] rfl) hH
    · have hF := hF.2 cd
      refine lv_aload_n hx hb dX9_isAgreed_35 rfl (lv_at hl 0 rfl) ?_
      obtain ⟨hc, hF⟩ := hF
      refine zc_getf X hH hc 7 607 ("ChurchyardBook$Grave", "holder", "LChurchyardBook$Person;", false) (by decide +kernel) (v := va_rf (zr h 607 o)) rfl q674 (Or.inl rfl) dX9_isAgreed_36 ?_
      obtain ⟨b1, eb1, hF⟩ := hF
      refine zq_st (st2 := [.ref b1]) (by rw [eb1]; first | done | rfl) ?_
      obtain ⟨hc, hF⟩ := hF
      refine zc_getf X hH hc 4 704 ("ChurchyardBook$Person", "wed", "LChurchyardBook$Person;", false) (by decide +kernel) (v := va_rf (zr h 704 b1)) rfl q874 (Or.inl rfl) dX9_isAgreed_39 ?_
      refine zq_aload_n hx hb dX9_isAgreed_42 rfl (lv_at hl 1 rfl) ?_
      refine lv_acmp_ne (rx := (zr h 704 b1)) (ry := q1) (tgt := 50) hx hb dX9_isAgreed_43 (by decide) (fun cd => ?_) (fun cd => ?_)
      · have hF := hF.1 cd
        refine lv_iconst (v := 0) hx hb dX9_isAgreed_50 (by decide) ?_
        exact wc_X9_isAgreed_51 X hN hT h q1 0 hF _ _ _ _ _ hB eh (lv_sub hl [0, 1] rfl) hH
      · have hF := hF.2 cd
        exact wc_X9_isAgreed_46 X hN hT h q1 hF _ _ _ _ _ hB eh (lv_sub hl [0, 1] rfl) hH
set_option maxHeartbeats 4000000 in
set_option maxRecDepth 100000 in
theorem wc_X9_isAgreed {l : Launch} {D : va_G} {cA : Nat → ClassId} {P : Nat → Prop} {G : Nat × Nat × Nat} {o : Nat} {Q : Int32 → Prop} {h : ZH} {C S : Nat} {q1 : Option Nat} (hl9 : l.stackTraces = false) (hF : fc_X9_isAgreed G o Q h q1) :
    zc_M l yX9_isAgreed (ws_ yX9_isAgreed cX9_isAgreed 3 (some .boolean)) 2 D cA P G [.ref o, va_rf q1] h C S (fun v h' => ∃ z : Int32, v = some (.int z) ∧ Q z ∧ h = h') zc_no := by
  refine zc_ofF hl9 rfl (by decide +kernel) (zc_slle (by simp [zc_k1, zc_kI, zc_kR]) (Nat.le_of_ble_eq_true rfl)) ?_
  intro p e s m args below meth c H locs ls X hN hT hH hl
  have hx := X.1
  have hb := X.2.1
  have hown := X.2.2.2.1
  have hts := X.2.2.2.2.1
  have hl : lv_has ls 3 [(0, .ref o), (1, va_rf q1)] := by
    have h9 := hl
    rw [zc_ags _ (by simp [zc_k1, zc_kI, zc_kR]) 0] at h9
    exact h9
  have hB : 0 + 0 ≤ C ∧ 0 + 0 ≤ S := ⟨by omega, by omega⟩
  have eh : h = h := rfl
  unfold fc_X9_isAgreed at hF
  refine lv_aload_n hx hb dX9_isAgreed_0 rfl (lv_at hl 0 rfl) ?_
  obtain ⟨hc, hF⟩ := hF
  refine zc_getf X hH hc 13 613 ("ChurchyardBook$Grave", "told", "[Z", false) (by decide +kernel) (v := va_rf (zr h 613 o)) rfl q691 (Or.inl rfl) dX9_isAgreed_1 ?_
  refine zq_ifnull (tgt := 19) hx hb dX9_isAgreed_4 (by decide) (fun cd => ?_) (fun b1 eb1 => ?_)
  · have hF := hF.1 cd
    exact wc_X9_isAgreed_19 X hN hT h q1 hF _ _ _ _ _ hB eh (lv_sub hl [0, 1] rfl) hH
  · have hF := hF.2 b1 eb1
    refine lv_aload_n hx hb dX9_isAgreed_7 rfl (lv_at hl 0 rfl) ?_
    obtain ⟨hc, hF⟩ := hF
    refine zc_getf X hH hc 13 613 ("ChurchyardBook$Grave", "told", "[Z", false) (by decide +kernel) (v := va_rf (zr h 613 o)) rfl q691 (Or.inl rfl) dX9_isAgreed_8 ?_
    refine zq_aload_n hx hb dX9_isAgreed_11 rfl (lv_at hl 1 rfl) ?_
    obtain ⟨b2, eb2, hF⟩ := hF
    refine zq_st (st2 := [.ref b2, va_rf (zr h 613 o)]) (by rw [eb2]; first | done | rfl) ?_
    obtain ⟨hc, hF⟩ := hF
    refine zc_getf X hH hc 0 700 ("ChurchyardBook$Person", "number", "I", true) (by decide +kernel) (v := .int (zi h 700 b2)) rfl q862 (Or.inl rfl) dX9_isAgreed_12 ?_
    refine zq_st (st2 := [.int (zi h 700 b2), .ref b1]) (by rw [eb1]; first | done | rfl) ?_
    obtain ⟨hc, hF⟩ := hF
    obtain ⟨hI, hF⟩ := hF
    refine zc_zald X hH hc hI dX9_isAgreed_15 ?_
    refine lv_if_ne (tgt := 46) hx hb dX9_isAgreed_16 (by decide) (fun cd => ?_) (fun cd => ?_)
    · have hF := hF.1 cd
      exact wc_X9_isAgreed_46 X hN hT h q1 hF _ _ _ _ _ hB eh (lv_sub hl [0, 1] rfl) hH
    · have hF := hF.2 cd
      exact wc_X9_isAgreed_19 X hN hT h q1 hF _ _ _ _ _ hB eh (lv_sub hl [0, 1] rfl) hH
set_option maxHeartbeats 1000000 in
theorem rv_isAgreed_16 {p : Program} {l : Launch} {e : Env} {R : Room} {s : State} {m : MethodId} {args : Array Value} {below : List Frame} {meth : Method} {c : Code} {H : Heap} {locs : List Loc} {cells slots : Nat} {cc : ByteArray} {nL pc : Nat} {ret : Option FieldType} {own : String} {ls : Array Slot} {rest : List Value} {D : va_G} {cA : Nat → ClassId} {P : Nat → Prop} {G : Nat × Nat × Nat} {h : ZH} {C S a idx : Nat} {Q : Int32 → Prop} {q1 : Option Nat} (X : zc_Cx p l s m args meth c cc nL ret own D cA P G) (hH : zc_H D cA P h s H locs) (hlk : Cond.methodLink own idx ⟨"ChurchyardBook$Grave", "isAgreed", "(LChurchyardBook$Person;)Z"⟩ ∈ lw_all) (hF : fv_isAgreed_16 G a Q h q1) (hR : zc_rm R 2 11) (hsize : ls.size = nL) {st0 : List Value} (hst : st0 = ([va_rf q1] : List Value).reverse ++ .ref a :: rest) (hcat : (rest.map fun v => v.category).sum ≤ 8) (hdg : decode cc pc = .ok (.invokevirtual idx, 3)) (hf : cells + C ≤ R.cells ∧ slots + S ≤ R.slots) :
    vx_Run p l e R s m args below meth c H locs cells slots C S (F0 m pc ls st0) rest (zc_Q D cA P (fun v h' => ∃ z : Int32, v = some (.int z) ∧ Q z ∧ h = h') (Value.ref a :: [va_rf q1]).toArray) (zc_X D cA P zc_no) P := by
  unfold fv_isAgreed_16 at hF
  have hR9 := hR
  obtain ⟨hc, hF⟩ := hF
  simp only [List.mem_cons, List.not_mem_nil, or_false] at hc
  rcases hc with hc | hc | hc | hc | hc | hc
  · have hF := hF (by rw [hc]; decide)
    exact zc_rU X hH hc (by decide) rfl (owner := "ChurchyardBook$Grave") (x := ⟨"ChurchyardBook$Grave", "isAgreed", "(LChurchyardBook$Person;)Z"⟩) (As := [va_rf q1]) (wc_X9_isAgreed X.2.2.2.2.2.2.2.1 hF) (lw_meth q1256) (X.2.2.2.2.1 _ hlk) (X.2.2.2.2.1 _ q1249) (zc_declC X q1248 q1256) (X.2.2.2.2.1 _ q1254) q1248 q114 ⟨by decide, by decide, rfl⟩ (zc_rm_le hR9 (by decide) (by decide)) rfl hsize hst hcat hdg hf
  · have hF := hF (by rw [hc]; decide)
    exact zc_rU X hH hc (by decide) rfl (owner := "ChurchyardBook$Grave") (x := ⟨"ChurchyardBook$Grave", "isAgreed", "(LChurchyardBook$Person;)Z"⟩) (As := [va_rf q1]) (wc_X9_isAgreed X.2.2.2.2.2.2.2.1 hF) (lw_meth q1256) (X.2.2.2.2.1 _ hlk) (X.2.2.2.2.1 _ q1249) (zc_declC X q1248 q1256) (X.2.2.2.2.1 _ q1251) q1248 q114 ⟨by decide, by decide, rfl⟩ (zc_rm_le hR9 (by decide) (by decide)) rfl hsize hst hcat hdg hf
  · have hF := hF (by rw [hc]; decide)
    exact zc_rU X hH hc (by decide) rfl (owner := "ChurchyardBook$Grave") (x := ⟨"ChurchyardBook$Grave", "isAgreed", "(LChurchyardBook$Person;)Z"⟩) (As := [va_rf q1]) (wc_X9_isAgreed X.2.2.2.2.2.2.2.1 hF) (lw_meth q1256) (X.2.2.2.2.1 _ hlk) (X.2.2.2.2.1 _ q1249) (zc_declC X q1248 q1256) (X.2.2.2.2.1 _ q1252) q1248 q114 ⟨by decide, by decide, rfl⟩ (zc_rm_le hR9 (by decide) (by decide)) rfl hsize hst hcat hdg hf
  · have hF := hF (by rw [hc]; decide)
    exact zc_rU X hH hc (by decide) rfl (owner := "ChurchyardBook$Grave") (x := ⟨"ChurchyardBook$Grave", "isAgreed", "(LChurchyardBook$Person;)Z"⟩) (As := [va_rf q1]) (wc_X9_isAgreed X.2.2.2.2.2.2.2.1 hF) (lw_meth q1256) (X.2.2.2.2.1 _ hlk) (X.2.2.2.2.1 _ q1249) (zc_declC X q1248 q1256) (X.2.2.2.2.1 _ q1255) q1248 q114 ⟨by decide, by decide, rfl⟩ (zc_rm_le hR9 (by decide) (by decide)) rfl hsize hst hcat hdg hf
  · have hF := hF (by rw [hc]; decide)
    exact zc_rU X hH hc (by decide) rfl (owner := "ChurchyardBook$Grave") (x := ⟨"ChurchyardBook$Grave", "isAgreed", "(LChurchyardBook$Person;)Z"⟩) (As := [va_rf q1]) (wc_X9_isAgreed X.2.2.2.2.2.2.2.1 hF) (lw_meth q1256) (X.2.2.2.2.1 _ hlk) (X.2.2.2.2.1 _ q1249) (zc_declC X q1248 q1256) (X.2.2.2.2.1 _ q1253) q1248 q114 ⟨by decide, by decide, rfl⟩ (zc_rm_le hR9 (by decide) (by decide)) rfl hsize hst hcat hdg hf
  · have hF := hF (by rw [hc]; decide)
    exact zc_rU X hH hc (by decide) rfl (owner := "ChurchyardBook$Grave") (x := ⟨"ChurchyardBook$Grave", "isAgreed", "(LChurchyardBook$Person;)Z"⟩) (As := [va_rf q1]) (wc_X9_isAgreed X.2.2.2.2.2.2.2.1 hF) (lw_meth q1256) (X.2.2.2.2.1 _ hlk) (X.2.2.2.2.1 _ q1249) (zc_declC X q1248 q1256) (X.2.2.2.2.1 _ q1250) q1248 q114 ⟨by decide, by decide, rfl⟩ (zc_rm_le hR9 (by decide) (by decide)) rfl hsize hst hcat hdg hf
set_option maxHeartbeats 4000000 in
set_option maxRecDepth 100000 in
theorem wc_X9_to {l : Launch} {D : va_G} {cA : Nat → ClassId} {P : Nat → Prop} {G : Nat × Nat × Nat} {o : Nat} {Q : Int32 → Prop} {h : ZH} {C S : Nat} (hl9 : l.stackTraces = false) (hF : fc_X9_to G o Q h) :
    zc_M l yX9_to (ws_ yX9_to cX9_to 1 (some .int)) 1 D cA P G [.ref o] h C S (fun v h' => ∃ z : Int32, v = some (.int z) ∧ Q z ∧ h = h') zc_no := by
  refine zc_ofF hl9 rfl (by decide +kernel) (Nat.le_of_ble_eq_true rfl) ?_
  intro p e s m args below meth c H locs ls X hN hT hH hl
  have hx := X.1
  have hb := X.2.1
  have hown := X.2.2.2.1
  have hts := X.2.2.2.2.1
  have hl : lv_has ls 1 [(0, .ref o)] := hl
  have hB : 0 + 0 ≤ C ∧ 0 + 0 ≤ S := ⟨by omega, by omega⟩
  have eh : h = h := rfl
  unfold fc_X9_to at hF
  refine lv_aload_n hx hb dX9_to_0 rfl (lv_at hl 0 rfl) ?_
  obtain ⟨hc, hF⟩ := hF
  refine zc_getf X hH hc 8 608 ("ChurchyardBook$Grave", "to", "I", false) (by decide +kernel) (v := .int (zi h 608 o)) rfl q677 (Or.inl rfl) dX9_to_1 ?_
  exact zc_iret X hH hB rfl rfl ⟨_, rfl, hF, eh⟩ dX9_to_4
set_option maxHeartbeats 1000000 in
theorem rv_to_13 {p : Program} {l : Launch} {e : Env} {R : Room} {s : State} {m : MethodId} {args : Array Value} {below : List Frame} {meth : Method} {c : Code} {H : Heap} {locs : List Loc} {cells slots : Nat} {cc : ByteArray} {nL pc : Nat} {ret : Option FieldType} {own : String} {ls : Array Slot} {rest : List Value} {D : va_G} {cA : Nat → ClassId} {P : Nat → Prop} {G : Nat × Nat × Nat} {h : ZH} {C S a idx : Nat} {cnt : Nat} {Q : Int32 → Prop} (X : zc_Cx p l s m args meth c cc nL ret own D cA P G) (hH : zc_H D cA P h s H locs) (hlk : Cond.methodLink own idx ⟨"ChurchyardBook$Ends", "to", "()I"⟩ ∈ lw_all) (hF : fv_to_13 G a Q h) (hR : zc_rm R 1 11) (hsize : ls.size = nL) {st0 : List Value} (hst : st0 = ([] : List Value).reverse ++ .ref a :: rest) (hcat : (rest.map fun v => v.category).sum ≤ 8) (hdg : decode cc pc = .ok (.invokeinterface idx cnt, 5)) (hf : cells + C ≤ R.cells ∧ slots + S ≤ R.slots) :
    vx_Run5 p l e R s m args below meth c H locs cells slots C S (F0 m pc ls st0) rest (zc_Q D cA P (fun v h' => ∃ z : Int32, v = some (.int z) ∧ Q z ∧ h = h') (Value.ref a :: []).toArray) (zc_X D cA P zc_no) P := by
  unfold fv_to_13 at hF
  have hR9 := hR
  obtain ⟨hc, hF⟩ := hF
  simp only [List.mem_cons, List.not_mem_nil, or_false] at hc
  rcases hc with hc | hc | hc | hc | hc | hc
  · have hF := hF (by rw [hc]; decide)
    exact zc_rF X hH hc (by decide) (by decide) rfl (As := []) (wc_X9_to X.2.2.2.2.2.2.2.1 hF) (lw_F hlk q1288 q1275 q114 q1277) (by decide +kernel) ⟨by decide, by decide, rfl⟩ (zc_rm_le hR9 (by decide) (by decide)) rfl hsize hst hcat hdg hf
  · have hF := hF (by rw [hc]; decide)
    exact zc_rF X hH hc (by decide) (by decide) rfl (As := []) (wc_X9_to X.2.2.2.2.2.2.2.1 hF) (lw_F hlk q1279 q1275 q114 q1277) (by decide +kernel) ⟨by decide, by decide, rfl⟩ (zc_rm_le hR9 (by decide) (by decide)) rfl hsize hst hcat hdg hf
  · have hF := hF (by rw [hc]; decide)
    exact zc_rF X hH hc (by decide) (by decide) rfl (As := []) (wc_X9_to X.2.2.2.2.2.2.2.1 hF) (lw_F hlk q1282 q1275 q114 q1277) (by decide +kernel) ⟨by decide, by decide, rfl⟩ (zc_rm_le hR9 (by decide) (by decide)) rfl hsize hst hcat hdg hf
  · have hF := hF (by rw [hc]; decide)
    exact zc_rF X hH hc (by decide) (by decide) rfl (As := []) (wc_X9_to X.2.2.2.2.2.2.2.1 hF) (lw_F hlk q1291 q1275 q114 q1277) (by decide +kernel) ⟨by decide, by decide, rfl⟩ (zc_rm_le hR9 (by decide) (by decide)) rfl hsize hst hcat hdg hf
  · have hF := hF (by rw [hc]; decide)
    exact zc_rF X hH hc (by decide) (by decide) rfl (As := []) (wc_X9_to X.2.2.2.2.2.2.2.1 hF) (lw_F hlk q1285 q1275 q114 q1277) (by decide +kernel) ⟨by decide, by decide, rfl⟩ (zc_rm_le hR9 (by decide) (by decide)) rfl hsize hst hcat hdg hf
  · have hF := hF (by rw [hc]; decide)
    exact zc_rF X hH hc (by decide) (by decide) rfl (As := []) (wc_X9_to X.2.2.2.2.2.2.2.1 hF) (lw_F hlk q1273 q1275 q114 q1277) (by decide +kernel) ⟨by decide, by decide, rfl⟩ (zc_rm_le hR9 (by decide) (by decide)) rfl hsize hst hcat hdg hf
set_option maxHeartbeats 4000000 in
set_option maxRecDepth 100000 in
theorem wc_X20_lacks {l : Launch} {D : va_G} {cA : Nat → ClassId} {P : Nat → Prop} {G : Nat × Nat × Nat} {o : Nat} {Q : Int32 → Prop} {h : ZH} {C S : Nat} {v1 : Int32} (hl9 : l.stackTraces = false) (hF : fc_X20_lacks G o Q h v1) :
    zc_M l yX20_lacks (ws_ yX20_lacks cX20_lacks 2 (some .int)) 2 D cA P G [.ref o, .int v1] h C S (fun v h' => ∃ z : Int32, v = some (.int z) ∧ Q z ∧ h = h') zc_no := by
  refine zc_ofF hl9 rfl (by decide +kernel) (Nat.le_of_ble_eq_true rfl) ?_
  intro p e s m args below meth c H locs ls X hN hT hH hl
  have hx := X.1
  have hb := X.2.1
  have hown := X.2.2.2.1
  have hts := X.2.2.2.2.1
  have hl : lv_has ls 2 [(0, .ref o), (1, .int v1)] := hl
  have hB : 0 + 0 ≤ C ∧ 0 + 0 ≤ S := ⟨by omega, by omega⟩
  have eh : h = h := rfl
  unfold fc_X20_lacks at hF
  refine lv_aload_n hx hb dX20_lacks_0 rfl (lv_at hl 0 rfl) ?_
  refine zc_call5 (c1 := 0) (s1 := 0) (rest := []) hH hB (Nat.zero_le _) (Nat.zero_le _) (fun hf => rv_to_13 X hH q1269 hF ⟨Nat.le_of_ble_eq_true rfl, Nat.le_of_ble_eq_true rfl, Nat.le_of_ble_eq_true rfl⟩ hl.1 (st0 := [.ref o]) rfl (Nat.le_of_ble_eq_true rfl) dX20_lacks_1 hf) (fun v9 h9 H locs hv9 hH hB => ?_)
  obtain ⟨z1, rfl, hF, rfl⟩ := hv9
  refine lv_iload_n hx hb dX20_lacks_6 rfl (lv_at hl 1 rfl) ?_
  refine lv_icmp_lt (tgt := 14) hx hb dX20_lacks_7 (by decide) (fun cd => ?_) (fun cd => ?_)
  · have hF := hF.1 cd
    refine lv_iload_n hx hb dX20_lacks_14 rfl (lv_at hl 1 rfl) ?_
    refine lv_aload_n hx hb dX20_lacks_15 rfl (lv_at hl 0 rfl) ?_
    refine zc_call5 (c1 := 0) (s1 := 0) (rest := [.int v1]) hH hB (Nat.zero_le _) (Nat.zero_le _) (fun hf => rv_to_13 X hH q1269 hF ⟨Nat.le_of_ble_eq_true rfl, Nat.le_of_ble_eq_true rfl, Nat.le_of_ble_eq_true rfl⟩ hl.1 (st0 := [.ref o, .int v1]) rfl (Nat.le_of_ble_eq_true rfl) dX20_lacks_16 hf) (fun v9 h9 H locs hv9 hH hB => ?_)
    obtain ⟨z2, rfl, hF, rfl⟩ := hv9
    refine lv_isub hx hb dX20_lacks_21 ?_
    refine lv_sipush (v := 365) hx hb dX20_lacks_22 (by decide) ?_
    refine lv_iadd hx hb dX20_lacks_25 ?_
    refine lv_iconst (v := 1) hx hb dX20_lacks_26 (by decide) ?_
    refine lv_isub hx hb dX20_lacks_27 ?_
    refine lv_sipush (v := 365) hx hb dX20_lacks_28 (by decide) ?_
    refine lv_idiv hx hb dX20_lacks_31 (by decide) ?_
    exact zc_iret X hH hB rfl rfl ⟨_, rfl, hF, eh⟩ dX20_lacks_32
  · have hF := hF.2 cd
    refine lv_iconst (v := 0) hx hb dX20_lacks_10 (by decide) ?_
    refine lv_goto (tgt := 32) hx hb dX20_lacks_11 (by decide) ?_
    exact zc_iret X hH hB rfl rfl ⟨_, rfl, hF, eh⟩ dX20_lacks_32
set_option maxHeartbeats 1000000 in
theorem rv_lacks_14 {p : Program} {l : Launch} {e : Env} {R : Room} {s : State} {m : MethodId} {args : Array Value} {below : List Frame} {meth : Method} {c : Code} {H : Heap} {locs : List Loc} {cells slots : Nat} {cc : ByteArray} {nL pc : Nat} {ret : Option FieldType} {own : String} {ls : Array Slot} {rest : List Value} {D : va_G} {cA : Nat → ClassId} {P : Nat → Prop} {G : Nat × Nat × Nat} {h : ZH} {C S a idx : Nat} {Q : Int32 → Prop} {v1 : Int32} (X : zc_Cx p l s m args meth c cc nL ret own D cA P G) (hH : zc_H D cA P h s H locs) (hlk : Cond.methodLink own idx ⟨"ChurchyardBook$Grave", "lacks", "(I)I"⟩ ∈ zc_gd) (hF : fv_lacks_14 G a Q h v1) (hR : zc_rm R 2 11) (hsize : ls.size = nL) {st0 : List Value} (hst : st0 = ([.int v1] : List Value).reverse ++ .ref a :: rest) (hcat : (rest.map fun v => v.category).sum ≤ 8) (hdg : decode cc pc = .ok (.invokevirtual idx, 3)) (hf : cells + C ≤ R.cells ∧ slots + S ≤ R.slots) :
    vx_Run p l e R s m args below meth c H locs cells slots C S (F0 m pc ls st0) rest (zc_Q D cA P (fun v h' => ∃ z : Int32, v = some (.int z) ∧ Q z ∧ h = h') (Value.ref a :: [.int v1]).toArray) (zc_X D cA P zc_no) P := by
  unfold fv_lacks_14 at hF
  have hR9 := hR
  obtain ⟨hc, hF⟩ := hF
  simp only [List.mem_cons, List.not_mem_nil, or_false] at hc
  rcases hc with hc | hc | hc | hc | hc | hc
  · have hF := hF (by rw [hc]; decide)
    exact zc_runD X hH hc (by decide) rfl (owner := "ChurchyardBook$Ends") (As := [.int v1]) (wc_X20_lacks X.2.2.2.2.2.2.2.1 hF).met (lw_meth q1267) rfl rfl rfl ⟨by have := hR9.1; show _ + 8 + 1 ≤ _; omega, by have := hR9.2.2; show 8 + (_ + 11) + (10240 + 40 * _) ≤ _; omega⟩ hlk (by decide +kernel) (by decide +kernel) (by decide) (by decide +kernel) q1265 q2247 rfl rfl hsize hst hcat hdg hf
  · have hF := hF (by rw [hc]; decide)
    exact zc_runD X hH hc (by decide) rfl (owner := "ChurchyardBook$Ends") (As := [.int v1]) (wc_X20_lacks X.2.2.2.2.2.2.2.1 hF).met (lw_meth q1267) rfl rfl rfl ⟨by have := hR9.1; show _ + 8 + 1 ≤ _; omega, by have := hR9.2.2; show 8 + (_ + 11) + (10240 + 40 * _) ≤ _; omega⟩ hlk (by decide +kernel) (by decide +kernel) (by decide) (by decide +kernel) q1265 q2247 rfl rfl hsize hst hcat hdg hf
  · have hF := hF (by rw [hc]; decide)
    exact zc_runD X hH hc (by decide) rfl (owner := "ChurchyardBook$Ends") (As := [.int v1]) (wc_X20_lacks X.2.2.2.2.2.2.2.1 hF).met (lw_meth q1267) rfl rfl rfl ⟨by have := hR9.1; show _ + 8 + 1 ≤ _; omega, by have := hR9.2.2; show 8 + (_ + 11) + (10240 + 40 * _) ≤ _; omega⟩ hlk (by decide +kernel) (by decide +kernel) (by decide) (by decide +kernel) q1265 q2247 rfl rfl hsize hst hcat hdg hf
  · have hF := hF (by rw [hc]; decide)
    exact zc_runD X hH hc (by decide) rfl (owner := "ChurchyardBook$Ends") (As := [.int v1]) (wc_X20_lacks X.2.2.2.2.2.2.2.1 hF).met (lw_meth q1267) rfl rfl rfl ⟨by have := hR9.1; show _ + 8 + 1 ≤ _; omega, by have := hR9.2.2; show 8 + (_ + 11) + (10240 + 40 * _) ≤ _; omega⟩ hlk (by decide +kernel) (by decide +kernel) (by decide) (by decide +kernel) q1265 q2247 rfl rfl hsize hst hcat hdg hf
  · have hF := hF (by rw [hc]; decide)
    exact zc_runD X hH hc (by decide) rfl (owner := "ChurchyardBook$Ends") (As := [.int v1]) (wc_X20_lacks X.2.2.2.2.2.2.2.1 hF).met (lw_meth q1267) rfl rfl rfl ⟨by have := hR9.1; show _ + 8 + 1 ≤ _; omega, by have := hR9.2.2; show 8 + (_ + 11) + (10240 + 40 * _) ≤ _; omega⟩ hlk (by decide +kernel) (by decide +kernel) (by decide) (by decide +kernel) q1265 q2247 rfl rfl hsize hst hcat hdg hf
  · have hF := hF (by rw [hc]; decide)
    exact zc_runD X hH hc (by decide) rfl (owner := "ChurchyardBook$Ends") (As := [.int v1]) (wc_X20_lacks X.2.2.2.2.2.2.2.1 hF).met (lw_meth q1267) rfl rfl rfl ⟨by have := hR9.1; show _ + 8 + 1 ≤ _; omega, by have := hR9.2.2; show 8 + (_ + 11) + (10240 + 40 * _) ≤ _; omega⟩ hlk (by decide +kernel) (by decide +kernel) (by decide) (by decide +kernel) q1265 q2247 rfl rfl hsize hst hcat hdg hf
set_option maxHeartbeats 4000000 in
set_option maxRecDepth 100000 in
theorem wc_X5_why_2_121 {p : Program} {l : Launch} {e : Env} {s : State} {m : MethodId} {args : Array Value} {below : List Frame} {meth : Method} {c : Code} {D : va_G} {cA : Nat → ClassId} {P : Nat → Prop} {G : Nat × Nat × Nat} {C S : Nat} {o : Nat} {Q : Int32 → Prop} {h0 : ZH} (X : zc_Cx p l s m args meth c cX5_why_2 8 (some .int) "ChurchyardBook$Book" D cA P G) (hN : meth.name = "why") (hT : c.exceptionTable.toList = tableOf []) :
    ∀ (h : ZH) (q1 : Option Nat) (v5 : Int32) (v7 : Int32), fc_X5_why_2_121 G o Q h q1 v5 v7 → ∀ (H : Heap) (locs : List Loc) (ls : Array Slot) (cells slots : Nat), cells + 0 ≤ C ∧ slots + 0 ≤ S → h0 = h → lv_has ls 8 [(0, .ref o), (1, va_rf q1), (5, .int v5), (7, .int v7)] → zc_H D cA P h s H locs → W p l e (zc_Ro 8 C S) s m args below meth c H locs cells slots (vx_MQ below (zc_Q D cA P (fun v h' => ∃ z : Int32, v = some (.int z) ∧ Q z ∧ h0 = h')) (zc_X D cA P zc_no) args s C S P) (F0 m 121 ls []) := by
  have hx := X.1
  have hb := X.2.1
  have hown := X.2.2.2.1
  have hts := X.2.2.2.2.1
  intro h q1 v5 v7 hF
  intro H locs ls cells slots hB eh hl hH
  unfold fc_X5_why_2_121 at hF
  refine lv_iload hx hb dX5_why_2_121 (lv_at hl 3 rfl) ?_
  refine lv_if_eq (tgt := 142) hx hb dX5_why_2_123 (by decide) (fun cd => ?_) (fun cd => ?_)
  · have hF := hF.1 cd
    refine lv_iconst (v := 0) hx hb dX5_why_2_142 (by decide) ?_
    exact zc_iret X hH hB rfl rfl ⟨_, rfl, hF, eh⟩ dX5_why_2_143
  · have hF := hF.2 cd
    refine zq_aload_n hx hb dX5_why_2_126 rfl (lv_at hl 1 rfl) ?_
    refine lv_iload hx hb dX5_why_2_127 (lv_at hl 2 rfl) ?_
    obtain ⟨b1, eb1, hF⟩ := hF
    refine zq_st (st2 := [.int v5, .ref b1]) (by rw [eb1]; first | done | rfl) ?_
    refine zc_call (c1 := 0) (s1 := 0) (rest := []) hH hB (Nat.zero_le _) (Nat.zero_le _) (fun hf => rv_lacks_14 X hH (by decide +kernel) hF ⟨Nat.le_of_ble_eq_true rfl, Nat.le_of_ble_eq_true rfl, Nat.le_of_ble_eq_true rfl⟩ hl.1 (st0 := [.int v5, .ref b1]) rfl (Nat.le_of_ble_eq_true rfl) dX5_why_2_129 hf) (fun E9 ce9 q9 h9 H locs hx9 => False.elim hx9) (fun v9 h9 H locs hv9 hH hB => ?_)
    obtain ⟨z2, rfl, hF, rfl⟩ := hv9
    refine lv_bipush (v := 20) hx hb dX5_why_2_132 (by decide) ?_
    refine lv_icmp_le (tgt := 142) hx hb dX5_why_2_134 (by decide) (fun cd => ?_) (fun cd => ?_)
    · have hF := hF.1 cd
      refine lv_iconst (v := 0) hx hb dX5_why_2_142 (by decide) ?_
      exact zc_iret X hH hB rfl rfl ⟨_, rfl, hF, eh⟩ dX5_why_2_143
    · have hF := hF.2 cd
      refine lv_bipush (v := 7) hx hb dX5_why_2_137 (by decide) ?_
      refine lv_goto (tgt := 143) hx hb dX5_why_2_139 (by decide) ?_
      exact zc_iret X hH hB rfl rfl ⟨_, rfl, hF, eh⟩ dX5_why_2_143
set_option maxHeartbeats 4000000 in
set_option maxRecDepth 100000 in
theorem wc_X5_why_2_91 {p : Program} {l : Launch} {e : Env} {s : State} {m : MethodId} {args : Array Value} {below : List Frame} {meth : Method} {c : Code} {D : va_G} {cA : Nat → ClassId} {P : Nat → Prop} {G : Nat × Nat × Nat} {C S : Nat} {o : Nat} {Q : Int32 → Prop} {h0 : ZH} (X : zc_Cx p l s m args meth c cX5_why_2 8 (some .int) "ChurchyardBook$Book" D cA P G) (hN : meth.name = "why") (hT : c.exceptionTable.toList = tableOf []) :
    ∀ (h : ZH) (q1 : Option Nat) (v2 : Int32) (q3 : Option Nat) (v5 : Int32) (v7 : Int32), fc_X5_why_2_91 G o Q h q1 v2 q3 v5 v7 → ∀ (H : Heap) (locs : List Loc) (ls : Array Slot) (cells slots : Nat), cells + 0 ≤ C ∧ slots + 0 ≤ S → h0 = h → lv_has ls 8 [(0, .ref o), (1, va_rf q1), (2, .int v2), (3, va_rf q3), (5, .int v5), (7, .int v7)] → zc_H D cA P h s H locs → W p l e (zc_Ro 8 C S) s m args below meth c H locs cells slots (vx_MQ below (zc_Q D cA P (fun v h' => ∃ z : Int32, v = some (.int z) ∧ Q z ∧ h0 = h')) (zc_X D cA P zc_no) args s C S P) (F0 m 91 ls []) := by
  have hx := X.1
  have hb := X.2.1
  have hown := X.2.2.2.1
  have hts := X.2.2.2.2.1
  intro h q1 v2 q3 v5 v7 hF
  intro H locs ls cells slots hB eh hl hH
  unfold fc_X5_why_2_91 at hF
  refine zq_aload_n hx hb dX5_why_2_91 rfl (lv_at hl 1 rfl) ?_
  refine lv_iload_n hx hb dX5_why_2_92 rfl (lv_at hl 2 rfl) ?_
  refine lv_aload_n hx hb dX5_why_2_93 rfl (lv_at hl 0 rfl) ?_
  obtain ⟨hc, hF⟩ := hF
  refine zc_getf X hH hc 3 203 ("ChurchyardBook$Book", "today", "I", false) (by decide +kernel) (v := .int (zi h 203 o)) rfl q194 (Or.inl rfl) dX5_why_2_94 ?_
  obtain ⟨b1, eb1, hF⟩ := hF
  refine zq_st (st2 := [.int (zi h 203 o), .int v2, .ref b1]) (by rw [eb1]; first | done | rfl) ?_
  refine zc_call (c1 := 0) (s1 := 0) (rest := []) hH hB (Nat.zero_le _) (Nat.zero_le _) (fun hf => rv_room_15 X hH q1194 hF ⟨Nat.le_of_ble_eq_true rfl, Nat.le_of_ble_eq_true rfl, Nat.le_of_ble_eq_true rfl⟩ hl.1 (st0 := [.int (zi h 203 o), .int v2, .ref b1]) rfl (Nat.le_of_ble_eq_true rfl) dX5_why_2_97 hf) (fun E9 ce9 q9 h9 H locs hx9 => False.elim hx9) (fun v9 h9 H locs hv9 hH hB => ?_)
  obtain ⟨z2, rfl, hF, rfl⟩ := hv9
  refine lv_if_ge (tgt := 105) hx hb dX5_why_2_100 (by decide) (fun cd => ?_) (fun cd => ?_)
  · have hF := hF.1 cd
    refine lv_iload hx hb dX5_why_2_105 (lv_at hl 5 rfl) ?_
    refine lv_if_eq (tgt := 121) hx hb dX5_why_2_107 (by decide) (fun cd => ?_) (fun cd => ?_)
    · have hF := hF.1 cd
      exact wc_X5_why_2_121 X hN hT h q1 v5 v7 hF _ _ _ _ _ hB eh (lv_sub hl [0, 1, 4, 5] rfl) hH
    · have hF := hF.2 cd
      refine zq_aload_n hx hb dX5_why_2_110 rfl (lv_at hl 1 rfl) ?_
      refine zq_aload_n hx hb dX5_why_2_111 rfl (lv_at hl 3 rfl) ?_
      refine zq_st (st2 := [va_rf q3, .ref b1]) (by rw [eb1]; first | done | rfl) ?_
      refine zc_call (c1 := 0) (s1 := 0) (rest := []) hH hB (Nat.zero_le _) (Nat.zero_le _) (fun hf => rv_isAgreed_16 X hH q1247 hF ⟨Nat.le_of_ble_eq_true rfl, Nat.le_of_ble_eq_true rfl, Nat.le_of_ble_eq_true rfl⟩ hl.1 (st0 := [va_rf q3, .ref b1]) rfl (Nat.le_of_ble_eq_true rfl) dX5_why_2_112 hf) (fun E9 ce9 q9 h9 H locs hx9 => False.elim hx9) (fun v9 h9 H locs hv9 hH hB => ?_)
      obtain ⟨z3, rfl, hF, rfl⟩ := hv9
      refine lv_if_ne (tgt := 121) hx hb dX5_why_2_115 (by decide) (fun cd => ?_) (fun cd => ?_)
      · have hF := hF.1 cd
        exact wc_X5_why_2_121 X hN hT h q1 v5 v7 hF _ _ _ _ _ hB eh (lv_sub hl [0, 1, 4, 5] rfl) hH
      · have hF := hF.2 cd
        refine lv_bipush (v := 6) hx hb dX5_why_2_118 (by decide) ?_
        exact zc_iret X hH hB rfl rfl ⟨_, rfl, hF, eh⟩ dX5_why_2_120
  · have hF := hF.2 cd
    refine lv_iconst (v := 5) hx hb dX5_why_2_103 (by decide) ?_
    exact zc_iret X hH hB rfl rfl ⟨_, rfl, hF, eh⟩ dX5_why_2_104
set_option maxHeartbeats 4000000 in
set_option maxRecDepth 100000 in
theorem wc_X5_why_2_70 {p : Program} {l : Launch} {e : Env} {s : State} {m : MethodId} {args : Array Value} {below : List Frame} {meth : Method} {c : Code} {D : va_G} {cA : Nat → ClassId} {P : Nat → Prop} {G : Nat × Nat × Nat} {C S : Nat} {o : Nat} {Q : Int32 → Prop} {h0 : ZH} (X : zc_Cx p l s m args meth c cX5_why_2 8 (some .int) "ChurchyardBook$Book" D cA P G) (hN : meth.name = "why") (hT : c.exceptionTable.toList = tableOf []) :
    ∀ (h : ZH) (q1 : Option Nat) (v2 : Int32) (q3 : Option Nat) (v5 : Int32), fc_X5_why_2_70 G o Q h q1 v2 q3 v5 → ∀ (H : Heap) (locs : List Loc) (ls : Array Slot) (cells slots : Nat), cells + 0 ≤ C ∧ slots + 0 ≤ S → h0 = h → lv_has ls 8 [(0, .ref o), (1, va_rf q1), (2, .int v2), (3, va_rf q3), (5, .int v5)] → zc_H D cA P h s H locs → W p l e (zc_Ro 8 C S) s m args below meth c H locs cells slots (vx_MQ below (zc_Q D cA P (fun v h' => ∃ z : Int32, v = some (.int z) ∧ Q z ∧ h0 = h')) (zc_X D cA P zc_no) args s C S P) (F0 m 70 ls []) := by
  have hx := X.1
  have hb := X.2.1
  have hown := X.2.2.2.1
  have hts := X.2.2.2.2.1
  intro h q1 v2 q3 v5 hF
  intro H locs ls cells slots hB eh hl hH
  unfold fc_X5_why_2_70 at hF
  refine zq_aload_n hx hb dX5_why_2_70 rfl (lv_at hl 1 rfl) ?_
  obtain ⟨b1, eb1, hF⟩ := hF
  refine zq_st (st2 := [.ref b1]) (by rw [eb1]; first | done | rfl) ?_
  refine zc_call (c1 := 0) (s1 := 0) (rest := []) hH hB (Nat.zero_le _) (Nat.zero_le _) (fun hf => rv_needsHolder_3 X hH q957 hF ⟨Nat.le_of_ble_eq_true rfl, Nat.le_of_ble_eq_true rfl, Nat.le_of_ble_eq_true rfl⟩ hl.1 (st0 := [.ref b1]) rfl (Nat.le_of_ble_eq_true rfl) dX5_why_2_71 hf) (fun E9 ce9 q9 h9 H locs hx9 => False.elim hx9) (fun v9 h9 H locs hv9 hH hB => ?_)
  obtain ⟨z2, rfl, hF, rfl⟩ := hv9
  refine lv_istore (lv' := [(7, .int z2), (0, .ref o), (1, va_rf q1), (2, .int v2), (3, va_rf q3), (5, .int v5)]) hx hb dX5_why_2_74 hl (by decide) rfl (fun ls hl => ?_)
  refine lv_iload hx hb dX5_why_2_76 (lv_at hl 0 rfl) ?_
  refine lv_if_eq (tgt := 91) hx hb dX5_why_2_78 (by decide) (fun cd => ?_) (fun cd => ?_)
  · have hF := hF.1 cd
    exact wc_X5_why_2_91 X hN hT h q1 v2 q3 v5 z2 hF _ _ _ _ _ hB eh (lv_sub hl [1, 2, 3, 4, 5, 0] rfl) hH
  · have hF := hF.2 cd
    refine zq_aload_n hx hb dX5_why_2_81 rfl (lv_at hl 2 rfl) ?_
    refine zq_st (st2 := [.ref b1]) (by rw [eb1]; first | done | rfl) ?_
    obtain ⟨hc, hF⟩ := hF
    refine zc_getf X hH hc 6 606 ("ChurchyardBook$Grave", "state", "I", false) (by decide +kernel) (v := .int (zi h 606 b1)) rfl q672 (Or.inl rfl) dX5_why_2_82 ?_
    refine lv_iconst (v := 1) hx hb dX5_why_2_85 (by decide) ?_
    refine lv_icmp_eq (tgt := 91) hx hb dX5_why_2_86 (by decide) (fun cd => ?_) (fun cd => ?_)
    · have hF := hF.1 cd
      exact wc_X5_why_2_91 X hN hT h q1 v2 q3 v5 z2 hF _ _ _ _ _ hB eh (lv_sub hl [1, 2, 3, 4, 5, 0] rfl) hH
    · have hF := hF.2 cd
      refine lv_iconst (v := 4) hx hb dX5_why_2_89 (by decide) ?_
      exact zc_iret X hH hB rfl rfl ⟨_, rfl, hF, eh⟩ dX5_why_2_90
set_option maxHeartbeats 4000000 in
set_option maxRecDepth 100000 in
theorem wc_X5_why_2 {l : Launch} {D : va_G} {cA : Nat → ClassId} {P : Nat → Prop} {G : Nat × Nat × Nat} {o : Nat} {Q : Int32 → Prop} {h : ZH} {C S : Nat} {q1 : Option Nat} {v2 : Int32} {q3 : Option Nat} {v4 : Int32} {v5 : Int32} {v6 : Int32} (hl9 : l.stackTraces = false) (hF : fc_X5_why_2 G o Q h q1 v2 q3 v4 v5 v6) :
    zc_M l yX5_why_2 (ws_ yX5_why_2 cX5_why_2 8 (some .int)) 8 D cA P G [.ref o, va_rf q1, .int v2, va_rf q3, .int v4, .int v5, .int v6] h C S (fun v h' => ∃ z : Int32, v = some (.int z) ∧ Q z ∧ h = h') zc_no := by
  refine zc_ofF hl9 rfl (by decide +kernel) (zc_slle (by simp [zc_k1, zc_kI, zc_kR]) (Nat.le_of_ble_eq_true rfl)) ?_
  intro p e s m args below meth c H locs ls X hN hT hH hl
  have hx := X.1
  have hb := X.2.1
  have hown := X.2.2.2.1
  have hts := X.2.2.2.2.1
  have hl : lv_has ls 8 [(0, .ref o), (1, va_rf q1), (2, .int v2), (3, va_rf q3), (4, .int v4), (5, .int v5), (6, .int v6)] := by
    have h9 := hl
    rw [zc_ags _ (by simp [zc_k1, zc_kI, zc_kR]) 0] at h9
    exact h9
  have hB : 0 + 0 ≤ C ∧ 0 + 0 ≤ S := ⟨by omega, by omega⟩
  have eh : h = h := rfl
  unfold fc_X5_why_2 at hF
  refine zq_aload_n hx hb dX5_why_2_0 rfl (lv_at hl 1 rfl) ?_
  refine zq_ifnull (tgt := 35) hx hb dX5_why_2_1 (by decide) (fun cd => ?_) (fun b1 eb1 => ?_)
  · have hF := hF.1 cd
    refine lv_iconst (v := 1) hx hb dX5_why_2_35 (by decide) ?_
    exact zc_iret X hH hB rfl rfl ⟨_, rfl, hF, eh⟩ dX5_why_2_36
  · have hF := hF.2 b1 eb1
    refine zq_aload_n hx hb dX5_why_2_4 rfl (lv_at hl 1 rfl) ?_
    refine zq_st (st2 := [.ref b1]) (by rw [eb1]; first | done | rfl) ?_
    obtain ⟨hc, hF⟩ := hF
    refine zc_getf X hH hc 6 606 ("ChurchyardBook$Grave", "state", "I", false) (by decide +kernel) (v := .int (zi h 606 b1)) rfl q672 (Or.inl rfl) dX5_why_2_5 ?_
    refine lv_iconst (v := 4) hx hb dX5_why_2_8 (by decide) ?_
    refine lv_icmp_eq (tgt := 35) hx hb dX5_why_2_9 (by decide) (fun cd => ?_) (fun cd => ?_)
    · have hF := hF.1 cd
      refine lv_iconst (v := 1) hx hb dX5_why_2_35 (by decide) ?_
      exact zc_iret X hH hB rfl rfl ⟨_, rfl, hF, eh⟩ dX5_why_2_36
    · have hF := hF.2 cd
      refine zq_aload_n hx hb dX5_why_2_12 rfl (lv_at hl 1 rfl) ?_
      refine lv_iload_n hx hb dX5_why_2_13 rfl (lv_at hl 2 rfl) ?_
      refine zq_st (st2 := [.int v2, .ref b1]) (by rw [eb1]; first | done | rfl) ?_
      refine zc_call (c1 := 0) (s1 := 0) (rest := []) hH hB (Nat.zero_le _) (Nat.zero_le _) (fun hf => rv_isColumn_17 X hH q1155 hF ⟨Nat.le_of_ble_eq_true rfl, Nat.le_of_ble_eq_true rfl, Nat.le_of_ble_eq_true rfl⟩ hl.1 (st0 := [.int v2, .ref b1]) rfl (Nat.le_of_ble_eq_true rfl) dX5_why_2_14 hf) (fun E9 ce9 q9 h9 H locs hx9 => False.elim hx9) (fun v9 h9 H locs hv9 hH hB => ?_)
      obtain ⟨z2, rfl, hF, rfl⟩ := hv9
      refine lv_if_eq (tgt := 35) hx hb dX5_why_2_17 (by decide) (fun cd => ?_) (fun cd => ?_)
      · have hF := hF.1 cd
        refine lv_iconst (v := 1) hx hb dX5_why_2_35 (by decide) ?_
        exact zc_iret X hH hB rfl rfl ⟨_, rfl, hF, eh⟩ dX5_why_2_36
      · have hF := hF.2 cd
        refine zq_aload_n hx hb dX5_why_2_20 rfl (lv_at hl 3 rfl) ?_
        refine zq_ifnull (tgt := 35) hx hb dX5_why_2_21 (by decide) (fun cd => ?_) (fun b3 eb3 => ?_)
        · have hF := hF.1 cd
          refine lv_iconst (v := 1) hx hb dX5_why_2_35 (by decide) ?_
          exact zc_iret X hH hB rfl rfl ⟨_, rfl, hF, eh⟩ dX5_why_2_36
        · have hF := hF.2 b3 eb3
          refine lv_iload hx hb dX5_why_2_24 (lv_at hl 4 rfl) ?_
          refine lv_if_lt (tgt := 35) hx hb dX5_why_2_26 (by decide) (fun cd => ?_) (fun cd => ?_)
          · have hF := hF.1 cd
            refine lv_iconst (v := 1) hx hb dX5_why_2_35 (by decide) ?_
            exact zc_iret X hH hB rfl rfl ⟨_, rfl, hF, eh⟩ dX5_why_2_36
          · have hF := hF.2 cd
            refine lv_iload hx hb dX5_why_2_29 (lv_at hl 4 rfl) ?_
            refine lv_iconst (v := 2) hx hb dX5_why_2_31 (by decide) ?_
            refine lv_icmp_le (tgt := 37) hx hb dX5_why_2_32 (by decide) (fun cd => ?_) (fun cd => ?_)
            · have hF := hF.1 cd
              refine zq_aload_n hx hb dX5_why_2_37 rfl (lv_at hl 1 rfl) ?_
              refine lv_iload hx hb dX5_why_2_38 (lv_at hl 4 rfl) ?_
              refine zq_st (st2 := [.int v4, .ref b1]) (by rw [eb1]; first | done | rfl) ?_
              refine zc_call (c1 := 0) (s1 := 0) (rest := []) hH hB (Nat.zero_le _) (Nat.zero_le _) (fun hf => rv_takes_18 X hH (by decide +kernel) hF ⟨Nat.le_of_ble_eq_true rfl, Nat.le_of_ble_eq_true rfl, Nat.le_of_ble_eq_true rfl⟩ hl.1 (st0 := [.int v4, .ref b1]) rfl (Nat.le_of_ble_eq_true rfl) dX5_why_2_40 hf) (fun E9 ce9 q9 h9 H locs hx9 => False.elim hx9) (fun v9 h9 H locs hv9 hH hB => ?_)
              obtain ⟨z4, rfl, hF, rfl⟩ := hv9
              refine lv_if_ne (tgt := 48) hx hb dX5_why_2_43 (by decide) (fun cd => ?_) (fun cd => ?_)
              · have hF := hF.1 cd
                refine lv_iload hx hb dX5_why_2_48 (lv_at hl 6 rfl) ?_
                refine lv_if_ne (tgt := 70) hx hb dX5_why_2_50 (by decide) (fun cd => ?_) (fun cd => ?_)
                · have hF := hF.1 cd
                  exact wc_X5_why_2_70 X hN hT h q1 v2 q3 v5 hF _ _ _ _ _ hB eh (lv_sub hl [0, 1, 2, 3, 5] rfl) hH
                · have hF := hF.2 cd
                  refine zq_aload_n hx hb dX5_why_2_53 rfl (lv_at hl 3 rfl) ?_
                  refine zq_st (st2 := [.ref b3]) (by rw [eb3]; first | done | rfl) ?_
                  obtain ⟨hc, hF⟩ := hF
                  refine zc_getf X hH hc 2 702 ("ChurchyardBook$Person", "isDead", "Z", false) (by decide +kernel) (v := .int (zi h 702 b3)) rfl q868 (Or.inl rfl) dX5_why_2_54 ?_
                  refine lv_if_eq (tgt := 68) hx hb dX5_why_2_57 (by decide) (fun cd => ?_) (fun cd => ?_)
                  · have hF := hF.1 cd
                    refine lv_iconst (v := 3) hx hb dX5_why_2_68 (by decide) ?_
                    exact zc_iret X hH hB rfl rfl ⟨_, rfl, hF, eh⟩ dX5_why_2_69
                  · have hF := hF.2 cd
                    refine zq_aload_n hx hb dX5_why_2_60 rfl (lv_at hl 3 rfl) ?_
                    refine zq_st (st2 := [.ref b3]) (by rw [eb3]; first | done | rfl) ?_
                    obtain ⟨hc, hF⟩ := hF
                    refine zc_getf X hH hc 8 708 ("ChurchyardBook$Person", "kind", "I", false) (by decide +kernel) (v := .int (zi h 708 b3)) rfl q884 (Or.inl rfl) dX5_why_2_61 ?_
                    refine lv_iconst (v := (-1)) hx hb dX5_why_2_64 (by decide) ?_
                    refine lv_icmp_eq (tgt := 70) hx hb dX5_why_2_65 (by decide) (fun cd => ?_) (fun cd => ?_)
                    · have hF := hF.1 cd
                      exact wc_X5_why_2_70 X hN hT h q1 v2 q3 v5 hF _ _ _ _ _ hB eh (lv_sub hl [0, 1, 2, 3, 5] rfl) hH
                    · have hF := hF.2 cd
                      refine lv_iconst (v := 3) hx hb dX5_why_2_68 (by decide) ?_
                      exact zc_iret X hH hB rfl rfl ⟨_, rfl, hF, eh⟩ dX5_why_2_69
              · have hF := hF.2 cd
                refine lv_iconst (v := 2) hx hb dX5_why_2_46 (by decide) ?_
                exact zc_iret X hH hB rfl rfl ⟨_, rfl, hF, eh⟩ dX5_why_2_47
            · have hF := hF.2 cd
              refine lv_iconst (v := 1) hx hb dX5_why_2_35 (by decide) ?_
              exact zc_iret X hH hB rfl rfl ⟨_, rfl, hF, eh⟩ dX5_why_2_36
set_option maxHeartbeats 4000000 in
set_option maxRecDepth 100000 in
theorem wc_X5_why_35 {p : Program} {l : Launch} {e : Env} {s : State} {m : MethodId} {args : Array Value} {below : List Frame} {meth : Method} {c : Code} {D : va_G} {cA : Nat → ClassId} {P : Nat → Prop} {G : Nat × Nat × Nat} {C S : Nat} {o : Nat} {Q : Int32 → Prop} {h0 : ZH} (X : zc_Cx p l s m args meth c cX5_why 6 (some .int) "ChurchyardBook$Book" D cA P G) (hN : meth.name = "why") (hT : c.exceptionTable.toList = tableOf []) :
    ∀ (h : ZH) (u1 : Option Nat) (t2 : Int32) (u3 : Option Nat) (t4 : Int32) (t5 : Int32), fc_X5_why_35 G o Q h u1 t2 u3 t4 t5 → ∀ (H : Heap) (locs : List Loc) (ls : Array Slot) (cells slots : Nat), cells + 0 ≤ C ∧ slots + 0 ≤ S → h0 = h → lv_has ls 6 [(0, .ref o)] → zc_H D cA P h s H locs → W p l e (zc_Ro 9 C S) s m args below meth c H locs cells slots (vx_MQ below (zc_Q D cA P (fun v h' => ∃ z : Int32, v = some (.int z) ∧ Q z ∧ h0 = h')) (zc_X D cA P zc_no) args s C S P) (F0 m 35 ls [.int t5, .int t4, va_rf u3, .int t2, va_rf u1, .ref o]) := by
  have hx := X.1
  have hb := X.2.1
  have hown := X.2.2.2.1
  have hts := X.2.2.2.2.1
  intro h u1 t2 u3 t4 t5 hF
  intro H locs ls cells slots hB eh hl hH
  unfold fc_X5_why_35 at hF
  refine lv_iconst (v := 0) hx hb dX5_why_35 (by decide) ?_
  obtain ⟨hc, hF⟩ := hF
  refine zc_call (c1 := 0) (s1 := 0) (rest := []) hH hB (Nat.zero_le _) (Nat.zero_le _) (fun hf => zc_rV X hH hc (by decide) rfl (As := [va_rf u1, .int t2, va_rf u3, .int t4, .int t5, .int 0]) (wc_X5_why_2 X.2.2.2.2.2.2.2.1 hF) (lw_V q1151 q1153 qs17 q91 q1154) ⟨rfl, by decide, by decide, rfl⟩ ⟨Nat.le_of_ble_eq_true rfl, Nat.le_of_ble_eq_true rfl, Nat.le_of_ble_eq_true rfl⟩ rfl hl.1 (st0 := [.int 0, .int t5, .int t4, va_rf u3, .int t2, va_rf u1, .ref o]) rfl (Nat.le_of_ble_eq_true rfl) dX5_why_36 hf) (fun E9 ce9 q9 h9 H locs hx9 => False.elim hx9) (fun v9 h9 H locs hv9 hH hB => ?_)
  obtain ⟨z1, rfl, hF, rfl⟩ := hv9
  exact zc_iret X hH hB rfl rfl ⟨_, rfl, hF, eh⟩ dX5_why_39
set_option maxHeartbeats 4000000 in
set_option maxRecDepth 100000 in
theorem wc_X5_why {l : Launch} {D : va_G} {cA : Nat → ClassId} {P : Nat → Prop} {G : Nat × Nat × Nat} {o : Nat} {Q : Int32 → Prop} {h : ZH} {C S : Nat} {v1 : Int32} {v2 : Int32} {v3 : Int32} {v4 : Int32} (hl9 : l.stackTraces = false) (hF : fc_X5_why G o Q h v1 v2 v3 v4) :
    zc_M l yX5_why (ws_ yX5_why cX5_why 6 (some .int)) 9 D cA P G [.ref o, .int v1, .int v2, .int v3, .int v4] h C S (fun v h' => ∃ z : Int32, v = some (.int z) ∧ Q z ∧ h = h') zc_no := by
  refine zc_ofF hl9 rfl (by decide +kernel) (Nat.le_of_ble_eq_true rfl) ?_
  intro p e s m args below meth c H locs ls X hN hT hH hl
  have hx := X.1
  have hb := X.2.1
  have hown := X.2.2.2.1
  have hts := X.2.2.2.2.1
  have hl : lv_has ls 6 [(0, .ref o), (1, .int v1), (2, .int v2), (3, .int v3), (4, .int v4)] := hl
  have hB : 0 + 0 ≤ C ∧ 0 + 0 ≤ S := ⟨by omega, by omega⟩
  have eh : h = h := rfl
  unfold fc_X5_why at hF
  refine lv_aload_n hx hb dX5_why_0 rfl (lv_at hl 0 rfl) ?_
  refine lv_iload_n hx hb dX5_why_1 rfl (lv_at hl 1 rfl) ?_
  obtain ⟨hc, hF⟩ := hF
  refine zc_call (c1 := 0) (s1 := 0) (rest := []) hH hB (Nat.zero_le _) (Nat.zero_le _) (fun hf => zc_rV X hH hc (by decide) rfl (As := [.int v1]) (wc_X5_grave X.2.2.2.2.2.2.2.1 hF) (lw_V q953 q954 q955 q91 q956) ⟨rfl, by decide, by decide, rfl⟩ ⟨Nat.le_of_ble_eq_true rfl, Nat.le_of_ble_eq_true rfl, Nat.le_of_ble_eq_true rfl⟩ rfl hl.1 (st0 := [.int v1, .ref o]) rfl (Nat.le_of_ble_eq_true rfl) dX5_why_2 hf) (fun E9 ce9 q9 h9 H locs hx9 => False.elim hx9) (fun v9 h9 H locs hv9 hH hB => ?_)
  obtain ⟨r1, rfl, hF, rfl⟩ := hv9
  refine zq_astore (r := r1) (lv' := [(5, va_rf r1), (0, .ref o), (1, .int v1), (2, .int v2), (3, .int v3), (4, .int v4)]) hx hb rfl dX5_why_5 hl (by decide) rfl (fun ls hl => ?_)
  refine lv_aload_n hx hb dX5_why_7 rfl (lv_at hl 1 rfl) ?_
  refine zq_aload hx hb dX5_why_8 (lv_at hl 0 rfl) ?_
  refine lv_iload_n hx hb dX5_why_10 rfl (lv_at hl 3 rfl) ?_
  refine lv_aload_n hx hb dX5_why_11 rfl (lv_at hl 1 rfl) ?_
  refine lv_iload_n hx hb dX5_why_12 rfl (lv_at hl 4 rfl) ?_
  obtain ⟨hc, hF⟩ := hF
  refine zc_call (c1 := 0) (s1 := 0) (rest := [.int v2, va_rf r1, .ref o]) hH hB (Nat.zero_le _) (Nat.zero_le _) (fun hf => zc_rV X hH hc (by decide) rfl (As := [.int v3]) (wc_X5_person X.2.2.2.2.2.2.2.1 hF) (lw_V q937 q938 q939 q91 q940) ⟨rfl, by decide, by decide, rfl⟩ ⟨Nat.le_of_ble_eq_true rfl, Nat.le_of_ble_eq_true rfl, Nat.le_of_ble_eq_true rfl⟩ rfl hl.1 (st0 := [.int v3, .ref o, .int v2, va_rf r1, .ref o]) rfl (by simp only [List.map_cons, List.map_nil, List.sum_cons, List.sum_nil, zc_k1]; exact Nat.le_of_ble_eq_true rfl) dX5_why_13 hf) (fun E9 ce9 q9 h9 H locs hx9 => False.elim hx9) (fun v9 h9 H locs hv9 hH hB => ?_)
  obtain ⟨r2, rfl, hF, rfl⟩ := hv9
  refine lv_iload hx hb dX5_why_16 (lv_at hl 5 rfl) ?_
  refine zq_aload hx hb dX5_why_18 (lv_at hl 0 rfl) ?_
  refine zq_ifnonnull (tgt := 27) hx hb dX5_why_20 (by decide) (fun b3 eb3 => ?_) (fun cd => ?_)
  · have hF := hF.2 b3 eb3
    refine lv_aload_n hx hb dX5_why_27 rfl (lv_at hl 1 rfl) ?_
    refine zq_aload hx hb dX5_why_28 (lv_at hl 0 rfl) ?_
    refine lv_iload hx hb dX5_why_30 (lv_at hl 5 rfl) ?_
    obtain ⟨hc, hF⟩ := hF
    refine zc_call (c1 := 0) (s1 := 0) (rest := [.int v4, va_rf r2, .int v2, va_rf r1, .ref o]) hH hB (Nat.zero_le _) (Nat.zero_le _) (fun hf => zc_rV X hH hc (by decide) rfl (As := [va_rf r1, .int v4]) (wc_X5_endOf X.2.2.2.2.2.2.2.1 hF) (lw_V q1111 q1113 qs16 q91 q1114) ⟨rfl, by decide, by decide, rfl⟩ ⟨Nat.le_of_ble_eq_true rfl, Nat.le_of_ble_eq_true rfl, Nat.le_of_ble_eq_true rfl⟩ rfl hl.1 (st0 := [.int v4, va_rf r1, .ref o, .int v4, va_rf r2, .int v2, va_rf r1, .ref o]) rfl (by simp only [List.map_cons, List.map_nil, List.sum_cons, List.sum_nil, zc_k1]; exact Nat.le_of_ble_eq_true rfl) dX5_why_32 hf) (fun E9 ce9 q9 h9 H locs hx9 => False.elim hx9) (fun v9 h9 H locs hv9 hH hB => ?_)
    obtain ⟨z4, rfl, hF, rfl⟩ := hv9
    exact wc_X5_why_35 X hN hT h r1 v2 r2 v4 z4 hF _ _ _ _ _ hB eh (lv_sub hl [1] rfl) hH
  · have hF := hF.1 cd
    refine lv_iconst (v := 0) hx hb dX5_why_23 (by decide) ?_
    refine lv_goto (tgt := 35) hx hb dX5_why_24 (by decide) ?_
    exact wc_X5_why_35 X hN hT h r1 v2 r2 v4 0 hF _ _ _ _ _ hB eh (lv_sub hl [1] rfl) hH
set_option maxHeartbeats 4000000 in
set_option maxRecDepth 100000 in
theorem wc_X17_init {l : Launch} {D : va_G} {cA : Nat → ClassId} {P : Nat → Prop} {G : Nat × Nat × Nat} {o : Nat} {Q : ZH → Prop} {h : ZH} {C S : Nat} {v1 : Int32} {q2 : Option Nat} (hl9 : l.stackTraces = false) (hF : fc_X17_init G o Q h v1 q2) :
    zc_M l yX17_init (ws_ yX17_init cX17_init 3 none) 1 D cA P G [.ref o, .int v1, va_rf q2] h C S (fun v h' => v = none ∧ Q h') zc_no := by
  refine zc_ofF hl9 rfl (by decide +kernel) (zc_slle (by simp [zc_k1, zc_kI, zc_kR]) (Nat.le_of_ble_eq_true rfl)) ?_
  intro p e s m args below meth c H locs ls X hN hT hH hl
  have hx := X.1
  have hb := X.2.1
  have hown := X.2.2.2.1
  have hts := X.2.2.2.2.1
  have hl : lv_has ls 3 [(0, .ref o), (1, .int v1), (2, va_rf q2)] := by
    have h9 := hl
    rw [zc_ags _ (by simp [zc_k1, zc_kI, zc_kR]) 0] at h9
    exact h9
  have hB : 0 + 0 ≤ C ∧ 0 + 0 ≤ S := ⟨by omega, by omega⟩
  unfold fc_X17_init at hF
  refine lv_aload_n hx hb dX17_init_0 rfl (lv_at hl 0 rfl) ?_
  refine zc_objI X hl.1 q1316 ⟨Nat.le_of_ble_eq_true rfl, Nat.le_of_ble_eq_true rfl⟩ (Nat.le_of_ble_eq_true rfl) dX17_init_1 ?_
  refine lv_aload_n hx hb dX17_init_4 rfl (lv_at hl 0 rfl) ?_
  refine lv_iload_n hx hb dX17_init_5 rfl (lv_at hl 1 rfl) ?_
  obtain ⟨hc, hF⟩ := hF
  refine zc_puti X hH hc 0 800 ("ChurchyardBook$Stay", "day", "I", true) (by decide +kernel) rfl q1317 (Or.inl rfl) (ty := .int) (by decide +kernel) rfl rfl (Or.inr ⟨rfl, hN, rfl⟩) dX17_init_6 (fun h1 H locs eh1 hH => ?_)
  have hF := hF h1 eh1
  refine lv_aload_n hx hb dX17_init_9 rfl (lv_at hl 0 rfl) ?_
  refine zq_aload_n hx hb dX17_init_10 rfl (lv_at hl 2 rfl) ?_
  obtain ⟨hc, hF⟩ := hF
  refine zc_putr X hH hc 1 801 ("ChurchyardBook$Stay", "grave", "LChurchyardBook$Grave;", true) (by decide +kernel) rfl q1319 (Or.inl rfl) (x := q2) rfl (ty := (.object "ChurchyardBook$Grave")) (by decide +kernel) rfl (Or.inr ⟨rfl, hN, rfl⟩) dX17_init_11 (fun h2 H locs eh2 hH => ?_)
  have hF := hF h2 eh2
  exact zc_vret X hH hB rfl ⟨rfl, hF⟩ dX17_init_14
set_option maxHeartbeats 4000000 in
set_option maxRecDepth 100000 in
theorem wc_X16_lies_20 {p : Program} {l : Launch} {e : Env} {s : State} {m : MethodId} {args : Array Value} {below : List Frame} {meth : Method} {c : Code} {D : va_G} {cA : Nat → ClassId} {P : Nat → Prop} {G : Nat × Nat × Nat} {C S : Nat} {o : Nat} {Q : ZH → Prop} (X : zc_Cx p l s m args meth c cX16_lies 5 none "ChurchyardBook$Person" D cA P G) (hN : meth.name = "lies") (hT : c.exceptionTable.toList = tableOf []) :
    ∀ (h : ZH) (bc bs : Nat) (v1 : Int32) (q2 : Option Nat), fc_X16_lies_20 G o Q h bc bs v1 q2 → ∀ (H : Heap) (locs : List Loc) (ls : Array Slot) (cells slots : Nat), cells + bc ≤ C ∧ slots + bs ≤ S → lv_has ls 5 [(0, .ref o), (1, .int v1), (2, va_rf q2)] → zc_H D cA P h s H locs → W p l e (zc_Ro 8 C S) s m args below meth c H locs cells slots (vx_MQ below (zc_Q D cA P (fun v h' => v = none ∧ Q h')) (zc_X D cA P zc_no) args s C S P) (F0 m 20 ls []) := by
  have hx := X.1
  have hb := X.2.1
  have hown := X.2.2.2.1
  have hts := X.2.2.2.2.1
  intro h bc bs v1 q2 hF
  intro H locs ls cells slots hB hl hH
  unfold fc_X16_lies_20 at hF
  refine lv_aload_n hx hb dX16_lies_20 rfl (lv_at hl 0 rfl) ?_
  obtain ⟨hc, hF⟩ := hF
  refine zc_getf X hH hc 13 713 ("ChurchyardBook$Person", "stays", "Ljava/util/ArrayList;", true) (by decide +kernel) (v := va_rf (zr h 713 o)) rfl q902 (Or.inl rfl) dX16_lies_21 ?_
  obtain ⟨hc1, hF⟩ := hF
  obtain ⟨hs1, hF⟩ := hF
  refine zc_new X hH hB (ci := 14) rfl (n := 2) q1311 q1312 q122 (by decide) hc1 hs1 dX16_lies_24 (fun a1 h2 H hza1 eh2 hH hB => ?_)
  have hF := hF a1 h2 hza1 eh2
  refine lv_dup hx hb dX16_lies_27 rfl ?_
  refine lv_iload_n hx hb dX16_lies_28 rfl (lv_at hl 1 rfl) ?_
  refine zq_aload_n hx hb dX16_lies_29 rfl (lv_at hl 2 rfl) ?_
  refine zc_call (c1 := 0) (s1 := 0) (rest := [.ref a1, va_rf (zr h 713 o)]) hH hB (Nat.zero_le _) (Nat.zero_le _) (fun hf => zc_rI X hH (As := [.int v1, va_rf q2]) (wc_X17_init X.2.2.2.2.2.2.2.1 hF) (lw_meth q1315) q1313 q122 q1314 rfl ⟨by decide, by decide, rfl⟩ ⟨Nat.le_of_ble_eq_true rfl, Nat.le_of_ble_eq_true rfl, Nat.le_of_ble_eq_true rfl⟩ rfl hl.1 (st0 := [va_rf q2, .int v1, .ref a1, .ref a1, va_rf (zr h 713 o)]) rfl (by simp only [List.map_cons, List.map_nil, List.sum_cons, List.sum_nil, zc_k1]; exact Nat.le_of_ble_eq_true rfl) dX16_lies_30 hf) (fun E9 ce9 q9 h9 H locs hx9 => False.elim hx9) (fun v9 h3 H locs hv9 hH hB => ?_)
  obtain ⟨rfl, hF⟩ := hv9
  obtain ⟨b4, eb4, hF⟩ := hF
  refine zq_st (st2 := [.ref a1, .ref b4]) (by rw [eb4]; first | done | rfl) ?_
  obtain ⟨hc, hF⟩ := hF
  obtain ⟨c5, s6, hc1, hs1, hF⟩ := hF
  refine zc_call (c1 := c5) (s1 := s6) (rest := []) hH hB hc1 hs1 (fun hf => zc_rV X hH hc (by decide) rfl (As := [.ref a1]) (wc_J2_add X.2.2.2.2.2.2.2.1 hF) (lw_V q1327 q377 q378 q94 q379) ⟨rfl, by decide, by decide, rfl⟩ ⟨Nat.le_of_ble_eq_true rfl, Nat.le_of_ble_eq_true rfl, Nat.le_of_ble_eq_true rfl⟩ rfl hl.1 (st0 := [.ref a1, .ref b4]) rfl (Nat.le_of_ble_eq_true rfl) dX16_lies_33 hf) (fun E9 ce9 q9 h9 H locs hx9 => False.elim hx9) (fun v9 h8 H locs hv9 hH hB => ?_)
  obtain ⟨z7, rfl, hF⟩ := hv9
  refine lv_pop hx hb dX16_lies_36 rfl ?_
  exact zc_vret X hH hB rfl ⟨rfl, hF⟩ dX16_lies_37
set_option maxHeartbeats 4000000 in
set_option maxRecDepth 100000 in
theorem wc_X16_lies {l : Launch} {D : va_G} {cA : Nat → ClassId} {P : Nat → Prop} {G : Nat × Nat × Nat} {o : Nat} {Q : ZH → Prop} {h : ZH} {C S : Nat} {v1 : Int32} {q2 : Option Nat} {v3 : Int32} {v4 : Int32} (hl9 : l.stackTraces = false) (hF : fc_X16_lies G o Q h C S v1 q2 v3 v4) :
    zc_M l yX16_lies (ws_ yX16_lies cX16_lies 5 none) 8 D cA P G [.ref o, .int v1, va_rf q2, .int v3, .int v4] h C S (fun v h' => v = none ∧ Q h') zc_no := by
  refine zc_ofF hl9 rfl (by decide +kernel) (zc_slle (by simp [zc_k1, zc_kI, zc_kR]) (Nat.le_of_ble_eq_true rfl)) ?_
  intro p e s m args below meth c H locs ls X hN hT hH hl
  have hx := X.1
  have hb := X.2.1
  have hown := X.2.2.2.1
  have hts := X.2.2.2.2.1
  have hl : lv_has ls 5 [(0, .ref o), (1, .int v1), (2, va_rf q2), (3, .int v3), (4, .int v4)] := by
    have h9 := hl
    rw [zc_ags _ (by simp [zc_k1, zc_kI, zc_kR]) 0] at h9
    exact h9
  have hB : 0 + C ≤ C ∧ 0 + S ≤ S := ⟨by omega, by omega⟩
  unfold fc_X16_lies at hF
  refine lv_aload_n hx hb dX16_lies_0 rfl (lv_at hl 0 rfl) ?_
  refine zq_aload_n hx hb dX16_lies_1 rfl (lv_at hl 2 rfl) ?_
  obtain ⟨hc, hF⟩ := hF
  refine zc_putr X hH hc 10 710 ("ChurchyardBook$Person", "grave", "LChurchyardBook$Grave;", false) (by decide +kernel) rfl q891 (Or.inl rfl) (x := q2) rfl (ty := (.object "ChurchyardBook$Grave")) (by decide +kernel) rfl (Or.inl rfl) dX16_lies_2 (fun h1 H locs eh1 hH => ?_)
  have hF := hF h1 eh1
  refine zq_aload_n hx hb dX16_lies_5 rfl (lv_at hl 2 rfl) ?_
  refine zq_ifnull (tgt := 20) hx hb dX16_lies_6 (by decide) (fun cd => ?_) (fun b2 eb2 => ?_)
  · have hF := hF.1 cd
    exact wc_X16_lies_20 X hN hT h1 C S v1 q2 hF _ _ _ _ _ hB (lv_sub hl [0, 1, 2] rfl) hH
  · have hF := hF.2 b2 eb2
    refine lv_aload_n hx hb dX16_lies_9 rfl (lv_at hl 0 rfl) ?_
    refine lv_iload_n hx hb dX16_lies_10 rfl (lv_at hl 3 rfl) ?_
    obtain ⟨hc, hF⟩ := hF
    refine zc_puti X hH hc 11 711 ("ChurchyardBook$Person", "column", "I", false) (by decide +kernel) rfl q894 (Or.inl rfl) (ty := .int) (by decide +kernel) rfl rfl (Or.inl rfl) dX16_lies_11 (fun h3 H locs eh3 hH => ?_)
    have hF := hF h3 eh3
    refine lv_aload_n hx hb dX16_lies_14 rfl (lv_at hl 0 rfl) ?_
    refine lv_iload hx hb dX16_lies_15 (lv_at hl 4 rfl) ?_
    obtain ⟨hc, hF⟩ := hF
    refine zc_puti X hH hc 12 712 ("ChurchyardBook$Person", "depth", "I", false) (by decide +kernel) rfl q898 (Or.inl rfl) (ty := .int) (by decide +kernel) rfl rfl (Or.inl rfl) dX16_lies_17 (fun h4 H locs eh4 hH => ?_)
    have hF := hF h4 eh4
    exact wc_X16_lies_20 X hN hT h4 C S v1 q2 hF _ _ _ _ _ hB (lv_sub hl [0, 1, 2] rfl) hH
set_option maxHeartbeats 4000000 in
set_option maxRecDepth 100000 in
theorem wc_X9_put_29 {p : Program} {l : Launch} {e : Env} {s : State} {m : MethodId} {args : Array Value} {below : List Frame} {meth : Method} {c : Code} {D : va_G} {cA : Nat → ClassId} {P : Nat → Prop} {G : Nat × Nat × Nat} {C S : Nat} {o : Nat} {Q : ZH → Prop} {K3 : ZH → Nat → Nat → Option Nat → Int32 → Int32 → Int32 → Int32 → Prop} (X : zc_Cx p l s m args meth c cX9_put 7 none "ChurchyardBook$Grave" D cA P G) (hN : meth.name = "put") (hT : c.exceptionTable.toList = tableOf []) (hK3 : ∀ (h : ZH) (bc bs : Nat) (q1 : Option Nat) (v2 : Int32) (v3 : Int32) (v4 : Int32) (v5 : Int32), K3 h bc bs q1 v2 v3 v4 v5 → ∀ (H : Heap) (locs : List Loc) (ls : Array Slot) (cells slots : Nat), cells + bc ≤ C ∧ slots + bs ≤ S → lv_has ls 7 [(0, .ref o), (1, va_rf q1), (2, .int v2), (3, .int v3), (4, .int v4), (5, .int v5)] → zc_H D cA P h s H locs → W p l e (zc_Ro 9 C S) s m args below meth c H locs cells slots (vx_MQ below (zc_Q D cA P (fun v h' => v = none ∧ Q h')) (zc_X D cA P zc_no) args s C S P) (F0 m 3 ls [])) :
    ∀ (h : ZH) (bc bs : Nat) (q1 : Option Nat) (v2 : Int32) (v3 : Int32) (v4 : Int32) (v5 : Int32), fc_X9_put_29 G o Q K3 h bc bs q1 v2 v3 v4 v5 → ∀ (H : Heap) (locs : List Loc) (ls : Array Slot) (cells slots : Nat), cells + bc ≤ C ∧ slots + bs ≤ S → lv_has ls 7 [(0, .ref o), (1, va_rf q1), (2, .int v2), (3, .int v3), (4, .int v4), (5, .int v5)] → zc_H D cA P h s H locs → W p l e (zc_Ro 9 C S) s m args below meth c H locs cells slots (vx_MQ below (zc_Q D cA P (fun v h' => v = none ∧ Q h')) (zc_X D cA P zc_no) args s C S P) (F0 m 29 ls []) := by
  have hx := X.1
  have hb := X.2.1
  have hown := X.2.2.2.1
  have hts := X.2.2.2.2.1
  intro h bc bs q1 v2 v3 v4 v5 hF
  intro H locs ls cells slots hB hl hH
  unfold fc_X9_put_29 at hF
  obtain ⟨x1, ex1⟩ : ∃ z : Int32, z = v5 + 1 := ⟨_, rfl⟩
  have hF := hF x1 ex1
  refine lv_iinc (v := x1) (lv' := [(5, .int x1), (0, .ref o), (1, va_rf q1), (2, .int v2), (3, .int v3), (4, .int v4)]) hx hb dX9_put_29 hl (k := 5) rfl (by rw [ex1]; rfl) (by decide) rfl (fun ls hl => ?_)
  refine lv_goto (tgt := 3) hx hb dX9_put_32 (by decide) ?_
  exact hK3 h bc bs q1 v2 v3 v4 x1 hF _ _ _ _ _ hB (lv_sub hl [1, 2, 3, 4, 5, 0] rfl) hH
set_option maxHeartbeats 4000000 in
set_option maxRecDepth 100000 in
theorem wc_X9_put_3 {p : Program} {l : Launch} {e : Env} {s : State} {m : MethodId} {args : Array Value} {below : List Frame} {meth : Method} {c : Code} {D : va_G} {cA : Nat → ClassId} {P : Nat → Prop} {G : Nat × Nat × Nat} {C S : Nat} {o : Nat} {Q : ZH → Prop} (X : zc_Cx p l s m args meth c cX9_put 7 none "ChurchyardBook$Grave" D cA P G) (hN : meth.name = "put") (hT : c.exceptionTable.toList = tableOf []) :
    ∀ (n : Nat) (h : ZH) (bc bs : Nat) (q1 : Option Nat) (v2 : Int32) (v3 : Int32) (v4 : Int32) (v5 : Int32), fc_X9_put_3 G o Q n h bc bs q1 v2 v3 v4 v5 → ∀ (H : Heap) (locs : List Loc) (ls : Array Slot) (cells slots : Nat), cells + bc ≤ C ∧ slots + bs ≤ S → lv_has ls 7 [(0, .ref o), (1, va_rf q1), (2, .int v2), (3, .int v3), (4, .int v4), (5, .int v5)] → zc_H D cA P h s H locs → W p l e (zc_Ro 9 C S) s m args below meth c H locs cells slots (vx_MQ below (zc_Q D cA P (fun v h' => v = none ∧ Q h')) (zc_X D cA P zc_no) args s C S P) (F0 m 3 ls []) := by
  have hx := X.1
  have hb := X.2.1
  have hown := X.2.2.2.1
  have hts := X.2.2.2.2.1
  intro n
  induction n with
  | zero =>
    intro h bc bs q1 v2 v3 v4 v5 hF
    exact False.elim hF
  | succ n ih =>
    intro h bc bs q1 v2 v3 v4 v5 hF
    intro H locs ls cells slots hB hl hH
    unfold fc_X9_put_3 at hF
    refine lv_iload hx hb dX9_put_3 (lv_at hl 5 rfl) ?_
    refine lv_iload_n hx hb dX9_put_5 rfl (lv_at hl 3 rfl) ?_
    refine lv_icmp_gt (tgt := 35) hx hb dX9_put_6 (by decide) (fun cd => ?_) (fun cd => ?_)
    · have hF := hF.1 cd
      refine lv_aload_n hx hb dX9_put_35 rfl (lv_at hl 0 rfl) ?_
      obtain ⟨hc, hF⟩ := hF
      refine zc_getf X hH hc 15 615 ("ChurchyardBook$Grave", "lying", "Ljava/util/ArrayList;", true) (by decide +kernel) (v := va_rf (zr h 615 o)) rfl q695 (Or.inl rfl) dX9_put_36 ?_
      refine zq_aload_n hx hb dX9_put_39 rfl (lv_at hl 1 rfl) ?_
      obtain ⟨b1, eb1, hF⟩ := hF
      refine zq_st (st2 := [va_rf q1, .ref b1]) (by rw [eb1]; first | done | rfl) ?_
      obtain ⟨hc, hF⟩ := hF
      obtain ⟨c2, s3, hc1, hs1, hF⟩ := hF
      refine zc_call (c1 := c2) (s1 := s3) (rest := []) hH hB hc1 hs1 (fun hf => zc_rV X hH hc (by decide) rfl (As := [va_rf q1]) (wc_J2_add X.2.2.2.2.2.2.2.1 hF) (lw_V q1331 q377 q378 q94 q379) ⟨rfl, by decide, by decide, rfl⟩ ⟨Nat.le_of_ble_eq_true rfl, Nat.le_of_ble_eq_true rfl, Nat.le_of_ble_eq_true rfl⟩ rfl hl.1 (st0 := [va_rf q1, .ref b1]) rfl (Nat.le_of_ble_eq_true rfl) dX9_put_40 hf) (fun E9 ce9 q9 h9 H locs hx9 => False.elim hx9) (fun v9 h5 H locs hv9 hH hB => ?_)
      obtain ⟨z4, rfl, hF⟩ := hv9
      refine lv_pop hx hb dX9_put_43 rfl ?_
      refine zq_aload_n hx hb dX9_put_44 rfl (lv_at hl 1 rfl) ?_
      refine lv_iload hx hb dX9_put_45 (lv_at hl 4 rfl) ?_
      refine lv_aload_n hx hb dX9_put_47 rfl (lv_at hl 0 rfl) ?_
      refine lv_iload_n hx hb dX9_put_48 rfl (lv_at hl 2 rfl) ?_
      refine lv_iload_n hx hb dX9_put_49 rfl (lv_at hl 3 rfl) ?_
      obtain ⟨b6, eb6, hF⟩ := hF
      refine zq_st (st2 := [.int v3, .int v2, .ref o, .int v4, .ref b6]) (by rw [eb6]; first | done | rfl) ?_
      obtain ⟨hc, hF⟩ := hF
      obtain ⟨c7, s8, hc1, hs1, hF⟩ := hF
      refine zc_call (c1 := c7) (s1 := s8) (rest := []) hH hB hc1 hs1 (fun hf => zc_rV X hH hc (by decide) rfl (As := [.int v4, .ref o, .int v2, .int v3]) (wc_X16_lies X.2.2.2.2.2.2.2.1 hF) (lw_V q1332 q1308 q1309 q121 q1310) ⟨rfl, by decide, by decide, rfl⟩ ⟨Nat.le_of_ble_eq_true rfl, Nat.le_of_ble_eq_true rfl, Nat.le_of_ble_eq_true rfl⟩ rfl hl.1 (st0 := [.int v3, .int v2, .ref o, .int v4, .ref b6]) rfl (Nat.le_of_ble_eq_true rfl) dX9_put_50 hf) (fun E9 ce9 q9 h9 H locs hx9 => False.elim hx9) (fun v9 h9 H locs hv9 hH hB => ?_)
      obtain ⟨rfl, hF⟩ := hv9
      exact zc_vret X hH hB rfl ⟨rfl, hF⟩ dX9_put_53
    · have hF := hF.2 cd
      refine lv_aload_n hx hb dX9_put_9 rfl (lv_at hl 0 rfl) ?_
      refine lv_iload_n hx hb dX9_put_10 rfl (lv_at hl 2 rfl) ?_
      refine lv_iload hx hb dX9_put_11 (lv_at hl 5 rfl) ?_
      refine zc_call (c1 := 0) (s1 := 0) (rest := []) hH hB (Nat.zero_le _) (Nat.zero_le _) (fun hf => rv_in_9 X hH q1211 hF ⟨Nat.le_of_ble_eq_true rfl, Nat.le_of_ble_eq_true rfl, Nat.le_of_ble_eq_true rfl⟩ hl.1 (st0 := [.int v5, .int v2, .ref o]) rfl (Nat.le_of_ble_eq_true rfl) dX9_put_13 hf) (fun E9 ce9 q9 h9 H locs hx9 => False.elim hx9) (fun v9 h9 H locs hv9 hH hB => ?_)
      obtain ⟨r10, rfl, hF, rfl⟩ := hv9
      refine zq_astore (r := r10) (lv' := [(6, va_rf r10), (0, .ref o), (1, va_rf q1), (2, .int v2), (3, .int v3), (4, .int v4), (5, .int v5)]) hx hb rfl dX9_put_16 hl (by decide) rfl (fun ls hl => ?_)
      refine zq_aload hx hb dX9_put_18 (lv_at hl 0 rfl) ?_
      refine zq_ifnull (tgt := 29) hx hb dX9_put_20 (by decide) (fun cd => ?_) (fun b11 eb11 => ?_)
      · have hF := hF.1 cd
        exact wc_X9_put_29 X hN hT ih h bc bs q1 v2 v3 v4 v5 hF _ _ _ _ _ hB (lv_sub hl [1, 2, 3, 4, 5, 6] rfl) hH
      · have hF := hF.2 b11 eb11
        refine zq_aload hx hb dX9_put_23 (lv_at hl 0 rfl) ?_
        refine lv_iconst (v := 2) hx hb dX9_put_25 (by decide) ?_
        refine zq_st (st2 := [.int 2, .ref b11]) (by rw [eb11]; first | done | rfl) ?_
        obtain ⟨hc, hF⟩ := hF
        refine zc_puti X hH hc 12 712 ("ChurchyardBook$Person", "depth", "I", false) (by decide +kernel) rfl q899 (Or.inl rfl) (ty := .int) (by decide +kernel) rfl rfl (Or.inl rfl) dX9_put_26 (fun h12 H locs eh12 hH => ?_)
        have hF := hF h12 eh12
        exact wc_X9_put_29 X hN hT ih h12 bc bs q1 v2 v3 v4 v5 hF _ _ _ _ _ hB (lv_sub hl [1, 2, 3, 4, 5, 6] rfl) hH
set_option maxHeartbeats 4000000 in
set_option maxRecDepth 100000 in
theorem wc_X9_put {l : Launch} {D : va_G} {cA : Nat → ClassId} {P : Nat → Prop} {G : Nat × Nat × Nat} {o : Nat} {Q : ZH → Prop} {h : ZH} {C S : Nat} {q1 : Option Nat} {v2 : Int32} {v3 : Int32} {v4 : Int32} (hl9 : l.stackTraces = false) (hF : fc_X9_put G o Q h C S q1 v2 v3 v4) :
    zc_M l yX9_put (ws_ yX9_put cX9_put 7 none) 9 D cA P G [.ref o, va_rf q1, .int v2, .int v3, .int v4] h C S (fun v h' => v = none ∧ Q h') zc_no := by
  refine zc_ofF hl9 rfl (by decide +kernel) (zc_slle (by simp [zc_k1, zc_kI, zc_kR]) (Nat.le_of_ble_eq_true rfl)) ?_
  intro p e s m args below meth c H locs ls X hN hT hH hl
  have hx := X.1
  have hb := X.2.1
  have hown := X.2.2.2.1
  have hts := X.2.2.2.2.1
  have hl : lv_has ls 7 [(0, .ref o), (1, va_rf q1), (2, .int v2), (3, .int v3), (4, .int v4)] := by
    have h9 := hl
    rw [zc_ags _ (by simp [zc_k1, zc_kI, zc_kR]) 0] at h9
    exact h9
  have hB : 0 + C ≤ C ∧ 0 + S ≤ S := ⟨by omega, by omega⟩
  unfold fc_X9_put at hF
  refine lv_iconst (v := 0) hx hb dX9_put_0 (by decide) ?_
  refine lv_istore (lv' := [(5, .int 0), (0, .ref o), (1, va_rf q1), (2, .int v2), (3, .int v3), (4, .int v4)]) hx hb dX9_put_1 hl (by decide) rfl (fun ls hl => ?_)
  obtain ⟨n9, hF⟩ := hF
  exact wc_X9_put_3 X hN hT n9 h C S q1 v2 v3 v4 0 hF _ _ _ _ _ hB (lv_sub hl [1, 2, 3, 4, 5, 0] rfl) hH
set_option maxHeartbeats 4000000 in
set_option maxRecDepth 100000 in
theorem wc_X14_put {l : Launch} {D : va_G} {cA : Nat → ClassId} {P : Nat → Prop} {G : Nat × Nat × Nat} {o : Nat} {Q : ZH → Prop} {h : ZH} {C S : Nat} {q1 : Option Nat} {v2 : Int32} {v3 : Int32} {v4 : Int32} (hl9 : l.stackTraces = false) (hF : fc_X14_put G o Q h C S q1 v2 v3 v4) :
    zc_M l yX14_put (ws_ yX14_put cX14_put 5 none) 9 D cA P G [.ref o, va_rf q1, .int v2, .int v3, .int v4] h C S (fun v h' => v = none ∧ Q h') zc_no := by
  refine zc_ofF hl9 rfl (by decide +kernel) (zc_slle (by simp [zc_k1, zc_kI, zc_kR]) (Nat.le_of_ble_eq_true rfl)) ?_
  intro p e s m args below meth c H locs ls X hN hT hH hl
  have hx := X.1
  have hb := X.2.1
  have hown := X.2.2.2.1
  have hts := X.2.2.2.2.1
  have hl : lv_has ls 5 [(0, .ref o), (1, va_rf q1), (2, .int v2), (3, .int v3), (4, .int v4)] := by
    have h9 := hl
    rw [zc_ags _ (by simp [zc_k1, zc_kI, zc_kR]) 0] at h9
    exact h9
  have hB : 0 + C ≤ C ∧ 0 + S ≤ S := ⟨by omega, by omega⟩
  unfold fc_X14_put at hF
  refine lv_aload_n hx hb dX14_put_0 rfl (lv_at hl 0 rfl) ?_
  obtain ⟨hc, hF⟩ := hF
  refine zc_getf X hH hc 15 615 ("ChurchyardBook$Grave", "lying", "Ljava/util/ArrayList;", true) (by decide +kernel) (v := va_rf (zr h 615 o)) rfl q696 (Or.inr q697) dX14_put_1 ?_
  refine zq_aload_n hx hb dX14_put_4 rfl (lv_at hl 1 rfl) ?_
  obtain ⟨b1, eb1, hF⟩ := hF
  refine zq_st (st2 := [va_rf q1, .ref b1]) (by rw [eb1]; first | done | rfl) ?_
  obtain ⟨hc, hF⟩ := hF
  obtain ⟨c2, s3, hc1, hs1, hF⟩ := hF
  refine zc_call (c1 := c2) (s1 := s3) (rest := []) hH hB hc1 hs1 (fun hf => zc_rV X hH hc (by decide) rfl (As := [va_rf q1]) (wc_J2_add X.2.2.2.2.2.2.2.1 hF) (lw_V q1306 q377 q378 q94 q379) ⟨rfl, by decide, by decide, rfl⟩ ⟨Nat.le_of_ble_eq_true rfl, Nat.le_of_ble_eq_true rfl, Nat.le_of_ble_eq_true rfl⟩ rfl hl.1 (st0 := [va_rf q1, .ref b1]) rfl (Nat.le_of_ble_eq_true rfl) dX14_put_5 hf) (fun E9 ce9 q9 h9 H locs hx9 => False.elim hx9) (fun v9 h5 H locs hv9 hH hB => ?_)
  obtain ⟨z4, rfl, hF⟩ := hv9
  refine lv_pop hx hb dX14_put_8 rfl ?_
  refine zq_aload_n hx hb dX14_put_9 rfl (lv_at hl 1 rfl) ?_
  refine lv_iload hx hb dX14_put_10 (lv_at hl 4 rfl) ?_
  refine lv_aload_n hx hb dX14_put_12 rfl (lv_at hl 0 rfl) ?_
  refine lv_iconst (v := 0) hx hb dX14_put_13 (by decide) ?_
  refine lv_iconst (v := 0) hx hb dX14_put_14 (by decide) ?_
  obtain ⟨b6, eb6, hF⟩ := hF
  refine zq_st (st2 := [.int 0, .int 0, .ref o, .int v4, .ref b6]) (by rw [eb6]; first | done | rfl) ?_
  obtain ⟨hc, hF⟩ := hF
  obtain ⟨c7, s8, hc1, hs1, hF⟩ := hF
  refine zc_call (c1 := c7) (s1 := s8) (rest := []) hH hB hc1 hs1 (fun hf => zc_rV X hH hc (by decide) rfl (As := [.int v4, .ref o, .int 0, .int 0]) (wc_X16_lies X.2.2.2.2.2.2.2.1 hF) (lw_V q1307 q1308 q1309 q121 q1310) ⟨rfl, by decide, by decide, rfl⟩ ⟨Nat.le_of_ble_eq_true rfl, Nat.le_of_ble_eq_true rfl, Nat.le_of_ble_eq_true rfl⟩ rfl hl.1 (st0 := [.int 0, .int 0, .ref o, .int v4, .ref b6]) rfl (Nat.le_of_ble_eq_true rfl) dX14_put_15 hf) (fun E9 ce9 q9 h9 H locs hx9 => False.elim hx9) (fun v9 h9 H locs hv9 hH hB => ?_)
  obtain ⟨rfl, hF⟩ := hv9
  exact zc_vret X hH hB rfl ⟨rfl, hF⟩ dX14_put_18
set_option maxHeartbeats 1000000 in
theorem rv_put_19 {p : Program} {l : Launch} {e : Env} {R : Room} {s : State} {m : MethodId} {args : Array Value} {below : List Frame} {meth : Method} {c : Code} {H : Heap} {locs : List Loc} {cells slots : Nat} {cc : ByteArray} {nL pc : Nat} {ret : Option FieldType} {own : String} {ls : Array Slot} {rest : List Value} {D : va_G} {cA : Nat → ClassId} {P : Nat → Prop} {G : Nat × Nat × Nat} {h : ZH} {C S a idx : Nat} {Q : ZH → Prop} {q1 : Option Nat} {v2 : Int32} {v3 : Int32} {v4 : Int32} (X : zc_Cx p l s m args meth c cc nL ret own D cA P G) (hH : zc_H D cA P h s H locs) (hlk : Cond.methodLink own idx ⟨"ChurchyardBook$Grave", "put", "(LChurchyardBook$Person;III)V"⟩ ∈ lw_all) (hF : fv_put_19 G a Q h C S q1 v2 v3 v4) (hR : zc_rm R 9 11) (hsize : ls.size = nL) {st0 : List Value} (hst : st0 = ([va_rf q1, .int v2, .int v3, .int v4] : List Value).reverse ++ .ref a :: rest) (hcat : (rest.map fun v => v.category).sum ≤ 8) (hdg : decode cc pc = .ok (.invokevirtual idx, 3)) (hf : cells + C ≤ R.cells ∧ slots + S ≤ R.slots) :
    vx_Run p l e R s m args below meth c H locs cells slots C S (F0 m pc ls st0) rest (zc_Q D cA P (fun v h' => v = none ∧ Q h') (Value.ref a :: [va_rf q1, .int v2, .int v3, .int v4]).toArray) (zc_X D cA P zc_no) P := by
  unfold fv_put_19 at hF
  have hR9 := hR
  obtain ⟨hc, hF⟩ := hF
  simp only [List.mem_cons, List.not_mem_nil, or_false] at hc
  rcases hc with hc | hc | hc | hc | hc | hc
  · have hF := hF.1 (by rw [hc]; decide)
    exact zc_rU X hH hc (by decide) rfl (owner := "ChurchyardBook$Grave") (x := ⟨"ChurchyardBook$Grave", "put", "(LChurchyardBook$Person;III)V"⟩) (As := [va_rf q1, .int v2, .int v3, .int v4]) (wc_X9_put X.2.2.2.2.2.2.2.1 hF) (lw_meth q1330) (X.2.2.2.2.1 _ hlk) (X.2.2.2.2.1 _ q1299) (zc_declC X q1298 q1330) (X.2.2.2.2.1 _ q1328) q1298 q114 ⟨by decide, by decide, rfl⟩ (zc_rm_le hR9 (by decide) (by decide)) rfl hsize hst hcat hdg hf
  · have hF := hF.1 (by rw [hc]; decide)
    exact zc_rU X hH hc (by decide) rfl (owner := "ChurchyardBook$Grave") (x := ⟨"ChurchyardBook$Grave", "put", "(LChurchyardBook$Person;III)V"⟩) (As := [va_rf q1, .int v2, .int v3, .int v4]) (wc_X9_put X.2.2.2.2.2.2.2.1 hF) (lw_meth q1330) (X.2.2.2.2.1 _ hlk) (X.2.2.2.2.1 _ q1299) (zc_declC X q1298 q1330) (X.2.2.2.2.1 _ q1301) q1298 q114 ⟨by decide, by decide, rfl⟩ (zc_rm_le hR9 (by decide) (by decide)) rfl hsize hst hcat hdg hf
  · have hF := hF.1 (by rw [hc]; decide)
    exact zc_rU X hH hc (by decide) rfl (owner := "ChurchyardBook$Grave") (x := ⟨"ChurchyardBook$Grave", "put", "(LChurchyardBook$Person;III)V"⟩) (As := [va_rf q1, .int v2, .int v3, .int v4]) (wc_X9_put X.2.2.2.2.2.2.2.1 hF) (lw_meth q1330) (X.2.2.2.2.1 _ hlk) (X.2.2.2.2.1 _ q1299) (zc_declC X q1298 q1330) (X.2.2.2.2.1 _ q1302) q1298 q114 ⟨by decide, by decide, rfl⟩ (zc_rm_le hR9 (by decide) (by decide)) rfl hsize hst hcat hdg hf
  · have hF := hF.1 (by rw [hc]; decide)
    exact zc_rU X hH hc (by decide) rfl (owner := "ChurchyardBook$Grave") (x := ⟨"ChurchyardBook$Grave", "put", "(LChurchyardBook$Person;III)V"⟩) (As := [va_rf q1, .int v2, .int v3, .int v4]) (wc_X9_put X.2.2.2.2.2.2.2.1 hF) (lw_meth q1330) (X.2.2.2.2.1 _ hlk) (X.2.2.2.2.1 _ q1299) (zc_declC X q1298 q1330) (X.2.2.2.2.1 _ q1329) q1298 q114 ⟨by decide, by decide, rfl⟩ (zc_rm_le hR9 (by decide) (by decide)) rfl hsize hst hcat hdg hf
  · have hF := hF.2 (by rw [hc]; decide)
    exact zc_rU X hH hc (by decide) rfl (owner := "ChurchyardBook$Grave") (x := ⟨"ChurchyardBook$Grave", "put", "(LChurchyardBook$Person;III)V"⟩) (As := [va_rf q1, .int v2, .int v3, .int v4]) (wc_X14_put X.2.2.2.2.2.2.2.1 hF) (lw_meth q1305) (X.2.2.2.2.1 _ hlk) (X.2.2.2.2.1 _ q1299) (zc_declC X q1298 q1330) (X.2.2.2.2.1 _ q1303) q1304 q119 ⟨by decide, by decide, rfl⟩ (zc_rm_le hR9 (by decide) (by decide)) rfl hsize hst hcat hdg hf
  · have hF := hF.1 (by rw [hc]; decide)
    exact zc_rU X hH hc (by decide) rfl (owner := "ChurchyardBook$Grave") (x := ⟨"ChurchyardBook$Grave", "put", "(LChurchyardBook$Person;III)V"⟩) (As := [va_rf q1, .int v2, .int v3, .int v4]) (wc_X9_put X.2.2.2.2.2.2.2.1 hF) (lw_meth q1330) (X.2.2.2.2.1 _ hlk) (X.2.2.2.2.1 _ q1299) (zc_declC X q1298 q1330) (X.2.2.2.2.1 _ q1300) q1298 q114 ⟨by decide, by decide, rfl⟩ (zc_rm_le hR9 (by decide) (by decide)) rfl hsize hst hcat hdg hf
