/-! THE COMPONENT SIDE: the walks, printed by gen_comp.py -/
set_option maxRecDepth 100000
set_option maxHeartbeats 4000000 in
set_option maxRecDepth 100000 in
theorem wc_X9_passOn_90 {p : Program} {l : Launch} {e : Env} {s : State} {m : MethodId} {args : Array Value} {below : List Frame} {meth : Method} {c : Code} {D : va_G} {cA : Nat → ClassId} {P : Nat → Prop} {G : Nat × Nat × Nat} {C S : Nat} {o : Nat} {Q : ZH → Prop} (X : zc_Cx p l s m args meth c cX9_passOn 2 none "ChurchyardBook$Grave" D cA P G) (hN : meth.name = "passOn") (hT : c.exceptionTable.toList = tableOf []) :
    ∀ (h : ZH) (v1 : Int32) (u1 : Option Nat), fc_X9_passOn_90 G o Q h v1 u1 → ∀ (H : Heap) (locs : List Loc) (ls : Array Slot) (cells slots : Nat), cells + 0 ≤ C ∧ slots + 0 ≤ S → lv_has ls 2 [(0, .ref o), (1, .int v1)] → zc_H D cA P h s H locs → W p l e (zc_Ro 4 C S) s m args below meth c H locs cells slots (vx_MQ below (zc_Q D cA P (fun v h' => v = none ∧ Q h')) (zc_X D cA P zc_no) args s C S P) (F0 m 90 ls [va_rf u1, .ref o]) := by
  have hx := X.1
  have hb := X.2.1
  have hown := X.2.2.2.1
  have hts := X.2.2.2.2.1
  intro h v1 u1 hF
  intro H locs ls cells slots hB hl hH
  unfold fc_X9_passOn_90 at hF
  obtain ⟨hc, hF⟩ := hF
  refine zc_putr X hH hc 9 609 ("ChurchyardBook$Grave", "offered", "LChurchyardBook$Person;", false) (by decide +kernel) rfl q680 (Or.inl rfl) (x := u1) rfl (ty := (.object "ChurchyardBook$Person")) (by decide +kernel) rfl (Or.inl rfl) dX9_passOn_90 (fun h1 H locs eh1 hH => ?_)
  have hF := hF h1 eh1
  refine lv_aload_n hx hb dX9_passOn_93 rfl (lv_at hl 0 rfl) ?_
  refine lv_aload_n hx hb dX9_passOn_94 rfl (lv_at hl 0 rfl) ?_
  obtain ⟨hc, hF⟩ := hF
  refine zc_getf X hH hc 9 609 ("ChurchyardBook$Grave", "offered", "LChurchyardBook$Person;", false) (by decide +kernel) (v := va_rf (zr h1 609 o)) rfl q680 (Or.inl rfl) dX9_passOn_95 ?_
  refine zq_ifnonnull (tgt := 105) hx hb dX9_passOn_98 (by decide) (fun b2 eb2 => ?_) (fun cd => ?_)
  · have hF := hF.2 b2 eb2
    refine lv_iload_n hx hb dX9_passOn_105 rfl (lv_at hl 1 rfl) ?_
    refine lv_bipush (v := 60) hx hb dX9_passOn_106 (by decide) ?_
    refine lv_iadd hx hb dX9_passOn_108 ?_
    exact wc_X9_passOn_109 X hN hT h1 (v1 + 60) hF _ _ _ _ _ hB (lv_sub hl [0] rfl) hH
  · have hF := hF.1 cd
    refine lv_iload_n hx hb dX9_passOn_101 rfl (lv_at hl 1 rfl) ?_
    refine lv_goto (tgt := 109) hx hb dX9_passOn_102 (by decide) ?_
    exact wc_X9_passOn_109 X hN hT h1 v1 hF _ _ _ _ _ hB (lv_sub hl [0] rfl) hH
set_option maxHeartbeats 4000000 in
set_option maxRecDepth 100000 in
theorem wc_X9_passOn_57 {p : Program} {l : Launch} {e : Env} {s : State} {m : MethodId} {args : Array Value} {below : List Frame} {meth : Method} {c : Code} {D : va_G} {cA : Nat → ClassId} {P : Nat → Prop} {G : Nat × Nat × Nat} {C S : Nat} {o : Nat} {Q : ZH → Prop} (X : zc_Cx p l s m args meth c cX9_passOn 2 none "ChurchyardBook$Grave" D cA P G) (hN : meth.name = "passOn") (hT : c.exceptionTable.toList = tableOf []) :
    ∀ (h : ZH) (v1 : Int32), fc_X9_passOn_57 G o Q h v1 → ∀ (H : Heap) (locs : List Loc) (ls : Array Slot) (cells slots : Nat), cells + 0 ≤ C ∧ slots + 0 ≤ S → lv_has ls 2 [(0, .ref o), (1, .int v1)] → zc_H D cA P h s H locs → W p l e (zc_Ro 4 C S) s m args below meth c H locs cells slots (vx_MQ below (zc_Q D cA P (fun v h' => v = none ∧ Q h')) (zc_X D cA P zc_no) args s C S P) (F0 m 57 ls []) := by
  have hx := X.1
  have hb := X.2.1
  have hown := X.2.2.2.1
  have hts := X.2.2.2.2.1
  intro h v1 hF
  intro H locs ls cells slots hB hl hH
  unfold fc_X9_passOn_57 at hF
  refine lv_aload_n hx hb dX9_passOn_57 rfl (lv_at hl 0 rfl) ?_
  refine lv_aload_n hx hb dX9_passOn_58 rfl (lv_at hl 0 rfl) ?_
  obtain ⟨hc, hF⟩ := hF
  refine zc_getf X hH hc 12 612 ("ChurchyardBook$Grave", "at", "I", false) (by decide +kernel) (v := .int (zi h 612 o)) rfl q688 (Or.inl rfl) dX9_passOn_59 ?_
  refine lv_aload_n hx hb dX9_passOn_62 rfl (lv_at hl 0 rfl) ?_
  obtain ⟨hc, hF⟩ := hF
  refine zc_getf X hH hc 11 611 ("ChurchyardBook$Grave", "order", "Ljava/util/ArrayList;", true) (by decide +kernel) (v := va_rf (zr h 611 o)) rfl q685 (Or.inl rfl) dX9_passOn_63 ?_
  obtain ⟨b1, eb1, hF⟩ := hF
  refine zq_st (st2 := [.ref b1, .int (zi h 612 o), .ref o]) (by rw [eb1]; first | done | rfl) ?_
  obtain ⟨hc, hF⟩ := hF
  refine zc_call (c1 := 0) (s1 := 0) (rest := [.int (zi h 612 o), .ref o]) hH hB (Nat.zero_le _) (Nat.zero_le _) (fun hf => zc_rV X hH hc (by decide) rfl (As := []) (wc_J2_size X.2.2.2.2.2.2.2.1 hF) (lw_V q1088 q350 q351 q94 q352) ⟨rfl, by decide, by decide, rfl⟩ ⟨Nat.le_of_ble_eq_true rfl, Nat.le_of_ble_eq_true rfl, Nat.le_of_ble_eq_true rfl⟩ rfl hl.1 (st0 := [.ref b1, .int (zi h 612 o), .ref o]) rfl (Nat.le_of_ble_eq_true rfl) dX9_passOn_66 hf) (fun E9 ce9 q9 h9 H locs hx9 => False.elim hx9) (fun v9 h9 H locs hv9 hH hB => ?_)
  obtain ⟨z2, rfl, hF, rfl⟩ := hv9
  refine lv_icmp_ge (tgt := 89) hx hb dX9_passOn_69 (by decide) (fun cd => ?_) (fun cd => ?_)
  · have hF := hF.1 cd
    refine lv_null hx hb dX9_passOn_89 ?_
    exact wc_X9_passOn_90 X hN hT h v1 none hF _ _ _ _ _ hB (lv_sub hl [0, 1] rfl) hH
  · have hF := hF.2 cd
    refine lv_aload_n hx hb dX9_passOn_72 rfl (lv_at hl 0 rfl) ?_
    obtain ⟨hc, hF⟩ := hF
    refine zc_getf X hH hc 11 611 ("ChurchyardBook$Grave", "order", "Ljava/util/ArrayList;", true) (by decide +kernel) (v := va_rf (zr h 611 o)) rfl q685 (Or.inl rfl) dX9_passOn_73 ?_
    refine lv_aload_n hx hb dX9_passOn_76 rfl (lv_at hl 0 rfl) ?_
    obtain ⟨hc, hF⟩ := hF
    refine zc_getf X hH hc 12 612 ("ChurchyardBook$Grave", "at", "I", false) (by decide +kernel) (v := .int (zi h 612 o)) rfl q688 (Or.inl rfl) dX9_passOn_77 ?_
    refine zq_st (st2 := [.int (zi h 612 o), .ref b1, .ref o]) (by rw [eb1]; first | done | rfl) ?_
    obtain ⟨hc, hF⟩ := hF
    refine zc_call (c1 := 0) (s1 := 0) (rest := [.ref o]) hH hB (Nat.zero_le _) (Nat.zero_le _) (fun hf => zc_rV X hH hc (by decide) rfl (As := [.int (zi h 612 o)]) (wc_J2_get X.2.2.2.2.2.2.2.1 hF) (lw_V q1089 q476 q477 q94 q478) ⟨rfl, by decide, by decide, rfl⟩ ⟨Nat.le_of_ble_eq_true rfl, Nat.le_of_ble_eq_true rfl, Nat.le_of_ble_eq_true rfl⟩ rfl hl.1 (st0 := [.int (zi h 612 o), .ref b1, .ref o]) rfl (Nat.le_of_ble_eq_true rfl) dX9_passOn_80 hf) (fun E9 ce9 q9 h9 H locs hx9 => False.elim hx9) (fun v9 h9 H locs hv9 hH hB => ?_)
    obtain ⟨r3, rfl, hF, rfl⟩ := hv9
    obtain ⟨hR, hF⟩ := hF
    refine zc_castY X hH (r := r3) [14] "ChurchyardBook$Person" hR (by decide) (by decide +kernel) q1090 dX9_passOn_83 ?_
    refine lv_goto (tgt := 90) hx hb dX9_passOn_86 (by decide) ?_
    exact wc_X9_passOn_90 X hN hT h v1 r3 hF _ _ _ _ _ hB (lv_sub hl [0, 1] rfl) hH
set_option maxHeartbeats 4000000 in
set_option maxRecDepth 100000 in
theorem wc_X9_passOn_10 {p : Program} {l : Launch} {e : Env} {s : State} {m : MethodId} {args : Array Value} {below : List Frame} {meth : Method} {c : Code} {D : va_G} {cA : Nat → ClassId} {P : Nat → Prop} {G : Nat × Nat × Nat} {C S : Nat} {o : Nat} {Q : ZH → Prop} (X : zc_Cx p l s m args meth c cX9_passOn 2 none "ChurchyardBook$Grave" D cA P G) (hN : meth.name = "passOn") (hT : c.exceptionTable.toList = tableOf []) :
    ∀ (n : Nat) (h : ZH) (v1 : Int32), fc_X9_passOn_10 G o Q n h v1 → ∀ (H : Heap) (locs : List Loc) (ls : Array Slot) (cells slots : Nat), cells + 0 ≤ C ∧ slots + 0 ≤ S → lv_has ls 2 [(0, .ref o), (1, .int v1)] → zc_H D cA P h s H locs → W p l e (zc_Ro 4 C S) s m args below meth c H locs cells slots (vx_MQ below (zc_Q D cA P (fun v h' => v = none ∧ Q h')) (zc_X D cA P zc_no) args s C S P) (F0 m 10 ls []) := by
  have hx := X.1
  have hb := X.2.1
  have hown := X.2.2.2.1
  have hts := X.2.2.2.2.1
  intro n
  induction n with
  | zero =>
    intro h v1 hF
    exact False.elim hF
  | succ n ih =>
    intro h v1 hF
    intro H locs ls cells slots hB hl hH
    unfold fc_X9_passOn_10 at hF
    refine lv_aload_n hx hb dX9_passOn_10 rfl (lv_at hl 0 rfl) ?_
    obtain ⟨hc, hF⟩ := hF
    refine zc_getf X hH hc 12 612 ("ChurchyardBook$Grave", "at", "I", false) (by decide +kernel) (v := .int (zi h 612 o)) rfl q688 (Or.inl rfl) dX9_passOn_11 ?_
    refine lv_aload_n hx hb dX9_passOn_14 rfl (lv_at hl 0 rfl) ?_
    obtain ⟨hc, hF⟩ := hF
    refine zc_getf X hH hc 11 611 ("ChurchyardBook$Grave", "order", "Ljava/util/ArrayList;", true) (by decide +kernel) (v := va_rf (zr h 611 o)) rfl q685 (Or.inl rfl) dX9_passOn_15 ?_
    obtain ⟨b1, eb1, hF⟩ := hF
    refine zq_st (st2 := [.ref b1, .int (zi h 612 o)]) (by rw [eb1]; first | done | rfl) ?_
    obtain ⟨hc, hF⟩ := hF
    refine zc_call (c1 := 0) (s1 := 0) (rest := [.int (zi h 612 o)]) hH hB (Nat.zero_le _) (Nat.zero_le _) (fun hf => zc_rV X hH hc (by decide) rfl (As := []) (wc_J2_size X.2.2.2.2.2.2.2.1 hF) (lw_V q1088 q350 q351 q94 q352) ⟨rfl, by decide, by decide, rfl⟩ ⟨Nat.le_of_ble_eq_true rfl, Nat.le_of_ble_eq_true rfl, Nat.le_of_ble_eq_true rfl⟩ rfl hl.1 (st0 := [.ref b1, .int (zi h 612 o)]) rfl (Nat.le_of_ble_eq_true rfl) dX9_passOn_18 hf) (fun E9 ce9 q9 h9 H locs hx9 => False.elim hx9) (fun v9 h9 H locs hv9 hH hB => ?_)
    obtain ⟨z2, rfl, hF, rfl⟩ := hv9
    refine lv_icmp_ge (tgt := 57) hx hb dX9_passOn_21 (by decide) (fun cd => ?_) (fun cd => ?_)
    · have hF := hF.1 cd
      exact wc_X9_passOn_57 X hN hT h v1 hF _ _ _ _ _ hB (lv_sub hl [0, 1] rfl) hH
    · have hF := hF.2 cd
      refine lv_aload_n hx hb dX9_passOn_24 rfl (lv_at hl 0 rfl) ?_
      obtain ⟨hc, hF⟩ := hF
      refine zc_getf X hH hc 11 611 ("ChurchyardBook$Grave", "order", "Ljava/util/ArrayList;", true) (by decide +kernel) (v := va_rf (zr h 611 o)) rfl q685 (Or.inl rfl) dX9_passOn_25 ?_
      refine lv_aload_n hx hb dX9_passOn_28 rfl (lv_at hl 0 rfl) ?_
      obtain ⟨hc, hF⟩ := hF
      refine zc_getf X hH hc 12 612 ("ChurchyardBook$Grave", "at", "I", false) (by decide +kernel) (v := .int (zi h 612 o)) rfl q688 (Or.inl rfl) dX9_passOn_29 ?_
      refine zq_st (st2 := [.int (zi h 612 o), .ref b1]) (by rw [eb1]; first | done | rfl) ?_
      obtain ⟨hc, hF⟩ := hF
      refine zc_call (c1 := 0) (s1 := 0) (rest := []) hH hB (Nat.zero_le _) (Nat.zero_le _) (fun hf => zc_rV X hH hc (by decide) rfl (As := [.int (zi h 612 o)]) (wc_J2_get X.2.2.2.2.2.2.2.1 hF) (lw_V q1089 q476 q477 q94 q478) ⟨rfl, by decide, by decide, rfl⟩ ⟨Nat.le_of_ble_eq_true rfl, Nat.le_of_ble_eq_true rfl, Nat.le_of_ble_eq_true rfl⟩ rfl hl.1 (st0 := [.int (zi h 612 o), .ref b1]) rfl (Nat.le_of_ble_eq_true rfl) dX9_passOn_32 hf) (fun E9 ce9 q9 h9 H locs hx9 => False.elim hx9) (fun v9 h9 H locs hv9 hH hB => ?_)
      obtain ⟨r3, rfl, hF, rfl⟩ := hv9
      obtain ⟨hR, hF⟩ := hF
      refine zc_castY X hH (r := r3) [14] "ChurchyardBook$Person" hR (by decide) (by decide +kernel) q1090 dX9_passOn_35 ?_
      obtain ⟨b4, eb4, hF⟩ := hF
      refine zq_st (st2 := [.ref b4]) (by rw [eb4]; first | done | rfl) ?_
      obtain ⟨hc, hF⟩ := hF
      refine zc_getf X hH hc 2 702 ("ChurchyardBook$Person", "isDead", "Z", false) (by decide +kernel) (v := .int (zi h 702 b4)) rfl q869 (Or.inl rfl) dX9_passOn_38 ?_
      refine lv_if_eq (tgt := 57) hx hb dX9_passOn_41 (by decide) (fun cd => ?_) (fun cd => ?_)
      · have hF := hF.1 cd
        exact wc_X9_passOn_57 X hN hT h v1 hF _ _ _ _ _ hB (lv_sub hl [0, 1] rfl) hH
      · have hF := hF.2 cd
        refine lv_aload_n hx hb dX9_passOn_44 rfl (lv_at hl 0 rfl) ?_
        refine lv_dup hx hb dX9_passOn_45 rfl ?_
        obtain ⟨hc, hF⟩ := hF
        refine zc_getf X hH hc 12 612 ("ChurchyardBook$Grave", "at", "I", false) (by decide +kernel) (v := .int (zi h 612 o)) rfl q688 (Or.inl rfl) dX9_passOn_46 ?_
        refine lv_iconst (v := 1) hx hb dX9_passOn_49 (by decide) ?_
        refine lv_iadd hx hb dX9_passOn_50 ?_
        obtain ⟨hc, hF⟩ := hF
        refine zc_puti X hH hc 12 612 ("ChurchyardBook$Grave", "at", "I", false) (by decide +kernel) rfl q688 (Or.inl rfl) (ty := .int) (by decide +kernel) rfl rfl (Or.inl rfl) dX9_passOn_51 (fun h5 H locs eh5 hH => ?_)
        have hF := hF h5 eh5
        refine lv_goto (tgt := 10) hx hb dX9_passOn_54 (by decide) ?_
        exact ih h5 v1 hF _ _ _ _ _ hB (lv_sub hl [0, 1] rfl) hH
set_option maxHeartbeats 4000000 in
set_option maxRecDepth 100000 in
theorem wc_X9_passOn {l : Launch} {D : va_G} {cA : Nat → ClassId} {P : Nat → Prop} {G : Nat × Nat × Nat} {o : Nat} {Q : ZH → Prop} {h : ZH} {C S : Nat} {v1 : Int32} (hl9 : l.stackTraces = false) (hF : fc_X9_passOn G o Q h v1) :
    zc_M l yX9_passOn (ws_ yX9_passOn cX9_passOn 2 none) 4 D cA P G [.ref o, .int v1] h C S (fun v h' => v = none ∧ Q h') zc_no := by
  refine zc_ofF hl9 rfl (by decide +kernel) (Nat.le_of_ble_eq_true rfl) ?_
  intro p e s m args below meth c H locs ls X hN hT hH hl
  have hx := X.1
  have hb := X.2.1
  have hown := X.2.2.2.1
  have hts := X.2.2.2.2.1
  have hl : lv_has ls 2 [(0, .ref o), (1, .int v1)] := hl
  have hB : 0 + 0 ≤ C ∧ 0 + 0 ≤ S := ⟨by omega, by omega⟩
  unfold fc_X9_passOn at hF
  refine lv_aload_n hx hb dX9_passOn_0 rfl (lv_at hl 0 rfl) ?_
  refine lv_dup hx hb dX9_passOn_1 rfl ?_
  obtain ⟨hc, hF⟩ := hF
  refine zc_getf X hH hc 12 612 ("ChurchyardBook$Grave", "at", "I", false) (by decide +kernel) (v := .int (zi h 612 o)) rfl q688 (Or.inl rfl) dX9_passOn_2 ?_
  refine lv_iconst (v := 1) hx hb dX9_passOn_5 (by decide) ?_
  refine lv_iadd hx hb dX9_passOn_6 ?_
  obtain ⟨hc, hF⟩ := hF
  refine zc_puti X hH hc 12 612 ("ChurchyardBook$Grave", "at", "I", false) (by decide +kernel) rfl q688 (Or.inl rfl) (ty := .int) (by decide +kernel) rfl rfl (Or.inl rfl) dX9_passOn_7 (fun h1 H locs eh1 hH => ?_)
  have hF := hF h1 eh1
  obtain ⟨n9, hF⟩ := hF
  exact wc_X9_passOn_10 X hN hT n9 h1 v1 hF _ _ _ _ _ hB (lv_sub hl [0, 1] rfl) hH
set_option maxHeartbeats 1000000 in
theorem rv_passOn_5 {p : Program} {l : Launch} {e : Env} {R : Room} {s : State} {m : MethodId} {args : Array Value} {below : List Frame} {meth : Method} {c : Code} {H : Heap} {locs : List Loc} {cells slots : Nat} {cc : ByteArray} {nL pc : Nat} {ret : Option FieldType} {own : String} {ls : Array Slot} {rest : List Value} {D : va_G} {cA : Nat → ClassId} {P : Nat → Prop} {G : Nat × Nat × Nat} {h : ZH} {C S a idx : Nat} {Q : ZH → Prop} {v1 : Int32} (X : zc_Cx p l s m args meth c cc nL ret own D cA P G) (hH : zc_H D cA P h s H locs) (hlk : Cond.methodLink own idx ⟨"ChurchyardBook$Grave", "passOn", "(I)V"⟩ ∈ lw_all) (hF : fv_passOn_5 G a Q h v1) (hR : zc_rm R 4 11) (hsize : ls.size = nL) {st0 : List Value} (hst : st0 = ([.int v1] : List Value).reverse ++ .ref a :: rest) (hcat : (rest.map fun v => v.category).sum ≤ 8) (hdg : decode cc pc = .ok (.invokevirtual idx, 3)) (hf : cells + C ≤ R.cells ∧ slots + S ≤ R.slots) :
    vx_Run p l e R s m args below meth c H locs cells slots C S (F0 m pc ls st0) rest (zc_Q D cA P (fun v h' => v = none ∧ Q h') (Value.ref a :: [.int v1]).toArray) (zc_X D cA P zc_no) P := by
  unfold fv_passOn_5 at hF
  have hR9 := hR
  obtain ⟨hc, hF⟩ := hF
  simp only [List.mem_cons, List.not_mem_nil, or_false] at hc
  rcases hc with hc | hc | hc | hc | hc | hc
  · have hF := hF (by rw [hc]; decide)
    exact zc_rU X hH hc (by decide) rfl (owner := "ChurchyardBook$Grave") (x := ⟨"ChurchyardBook$Grave", "passOn", "(I)V"⟩) (As := [.int v1]) (wc_X9_passOn X.2.2.2.2.2.2.2.1 hF) (lw_meth q1087) (X.2.2.2.2.1 _ hlk) (X.2.2.2.2.1 _ q1080) (zc_declC X q1079 q1087) (X.2.2.2.2.1 _ q1085) q1079 q114 ⟨by decide, by decide, rfl⟩ (zc_rm_le hR9 (by decide) (by decide)) rfl hsize hst hcat hdg hf
  · have hF := hF (by rw [hc]; decide)
    exact zc_rU X hH hc (by decide) rfl (owner := "ChurchyardBook$Grave") (x := ⟨"ChurchyardBook$Grave", "passOn", "(I)V"⟩) (As := [.int v1]) (wc_X9_passOn X.2.2.2.2.2.2.2.1 hF) (lw_meth q1087) (X.2.2.2.2.1 _ hlk) (X.2.2.2.2.1 _ q1080) (zc_declC X q1079 q1087) (X.2.2.2.2.1 _ q1082) q1079 q114 ⟨by decide, by decide, rfl⟩ (zc_rm_le hR9 (by decide) (by decide)) rfl hsize hst hcat hdg hf
  · have hF := hF (by rw [hc]; decide)
    exact zc_rU X hH hc (by decide) rfl (owner := "ChurchyardBook$Grave") (x := ⟨"ChurchyardBook$Grave", "passOn", "(I)V"⟩) (As := [.int v1]) (wc_X9_passOn X.2.2.2.2.2.2.2.1 hF) (lw_meth q1087) (X.2.2.2.2.1 _ hlk) (X.2.2.2.2.1 _ q1080) (zc_declC X q1079 q1087) (X.2.2.2.2.1 _ q1083) q1079 q114 ⟨by decide, by decide, rfl⟩ (zc_rm_le hR9 (by decide) (by decide)) rfl hsize hst hcat hdg hf
  · have hF := hF (by rw [hc]; decide)
    exact zc_rU X hH hc (by decide) rfl (owner := "ChurchyardBook$Grave") (x := ⟨"ChurchyardBook$Grave", "passOn", "(I)V"⟩) (As := [.int v1]) (wc_X9_passOn X.2.2.2.2.2.2.2.1 hF) (lw_meth q1087) (X.2.2.2.2.1 _ hlk) (X.2.2.2.2.1 _ q1080) (zc_declC X q1079 q1087) (X.2.2.2.2.1 _ q1086) q1079 q114 ⟨by decide, by decide, rfl⟩ (zc_rm_le hR9 (by decide) (by decide)) rfl hsize hst hcat hdg hf
  · have hF := hF (by rw [hc]; decide)
    exact zc_rU X hH hc (by decide) rfl (owner := "ChurchyardBook$Grave") (x := ⟨"ChurchyardBook$Grave", "passOn", "(I)V"⟩) (As := [.int v1]) (wc_X9_passOn X.2.2.2.2.2.2.2.1 hF) (lw_meth q1087) (X.2.2.2.2.1 _ hlk) (X.2.2.2.2.1 _ q1080) (zc_declC X q1079 q1087) (X.2.2.2.2.1 _ q1084) q1079 q114 ⟨by decide, by decide, rfl⟩ (zc_rm_le hR9 (by decide) (by decide)) rfl hsize hst hcat hdg hf
  · have hF := hF (by rw [hc]; decide)
    exact zc_rU X hH hc (by decide) rfl (owner := "ChurchyardBook$Grave") (x := ⟨"ChurchyardBook$Grave", "passOn", "(I)V"⟩) (As := [.int v1]) (wc_X9_passOn X.2.2.2.2.2.2.2.1 hF) (lw_meth q1087) (X.2.2.2.2.1 _ hlk) (X.2.2.2.2.1 _ q1080) (zc_declC X q1079 q1087) (X.2.2.2.2.1 _ q1081) q1079 q114 ⟨by decide, by decide, rfl⟩ (zc_rm_le hR9 (by decide) (by decide)) rfl hsize hst hcat hdg hf
set_option maxHeartbeats 4000000 in
set_option maxRecDepth 100000 in
theorem wc_X5_offers_126 {p : Program} {l : Launch} {e : Env} {s : State} {m : MethodId} {args : Array Value} {below : List Frame} {meth : Method} {c : Code} {D : va_G} {cA : Nat → ClassId} {P : Nat → Prop} {G : Nat × Nat × Nat} {C S : Nat} {o : Nat} {Q : ZH → Prop} (X : zc_Cx p l s m args meth c cX5_offers 4 none "ChurchyardBook$Book" D cA P G) (hN : meth.name = "offers") (hT : c.exceptionTable.toList = tableOf []) :
    ∀ (h : ZH) (bc bs : Nat) (q1 : Option Nat) (q2 : Option Nat) (u1 : Option Nat) (u2 : Option Nat), fc_X5_offers_126 G o Q h bc bs q1 q2 u1 u2 → ∀ (H : Heap) (locs : List Loc) (ls : Array Slot) (cells slots : Nat), cells + bc ≤ C ∧ slots + bs ≤ S → lv_has ls 4 [(0, .ref o), (1, va_rf q1), (2, va_rf q2)] → zc_H D cA P h s H locs → W p l e (zc_Ro 10 C S) s m args below meth c H locs cells slots (vx_MQ below (zc_Q D cA P (fun v h' => v = none ∧ Q h')) (zc_X D cA P zc_no) args s C S P) (F0 m 126 ls [va_rf u2, va_rf u1, .ref o]) := by
  have hx := X.1
  have hb := X.2.1
  have hown := X.2.2.2.1
  have hts := X.2.2.2.2.1
  intro h bc bs q1 q2 u1 u2 hF
  intro H locs ls cells slots hB hl hH
  unfold fc_X5_offers_126 at hF
  obtain ⟨hc, hF⟩ := hF
  obtain ⟨c1, s2, hc1, hs1, hF⟩ := hF
  refine zc_call (c1 := c1) (s1 := s2) (rest := []) hH hB hc1 hs1 (fun hf => zc_rV X hH hc (by decide) rfl (As := [va_rf u1, va_rf u2]) (wc_X5_orders X.2.2.2.2.2.2.2.1 hF) (lw_V q1019 q1021 qs12 q91 q1022) ⟨rfl, by decide, by decide, rfl⟩ ⟨Nat.le_of_ble_eq_true rfl, Nat.le_of_ble_eq_true rfl, Nat.le_of_ble_eq_true rfl⟩ rfl hl.1 (st0 := [va_rf u2, va_rf u1, .ref o]) rfl (Nat.le_of_ble_eq_true rfl) dX5_offers_126 hf) (fun E9 ce9 q9 h9 H locs hx9 => False.elim hx9) (fun v9 h3 H locs hv9 hH hB => ?_)
  obtain ⟨rfl, hF⟩ := hv9
  refine lv_aload_n hx hb dX5_offers_129 rfl (lv_at hl 0 rfl) ?_
  refine zq_aload_n hx hb dX5_offers_130 rfl (lv_at hl 1 rfl) ?_
  refine zq_aload_n hx hb dX5_offers_131 rfl (lv_at hl 2 rfl) ?_
  refine lv_iconst (v := 0) hx hb dX5_offers_132 (by decide) ?_
  obtain ⟨hc, hF⟩ := hF
  obtain ⟨c4, s5, hc1, hs1, hF⟩ := hF
  refine zc_call (c1 := c4) (s1 := s5) (rest := []) hH hB hc1 hs1 (fun hf => zc_rV X hH hc (by decide) rfl (As := [va_rf q1, va_rf q2, .int 0]) (wc_X5_ordersByAge X.2.2.2.2.2.2.2.1 hF) (lw_V q1060 q1062 qs13 q91 q1063) ⟨rfl, by decide, by decide, rfl⟩ ⟨Nat.le_of_ble_eq_true rfl, Nat.le_of_ble_eq_true rfl, Nat.le_of_ble_eq_true rfl⟩ rfl hl.1 (st0 := [.int 0, va_rf q2, va_rf q1, .ref o]) rfl (Nat.le_of_ble_eq_true rfl) dX5_offers_133 hf) (fun E9 ce9 q9 h9 H locs hx9 => False.elim hx9) (fun v9 h6 H locs hv9 hH hB => ?_)
  obtain ⟨rfl, hF⟩ := hv9
  refine zq_aload_n hx hb dX5_offers_136 rfl (lv_at hl 1 rfl) ?_
  refine lv_iconst (v := (-1)) hx hb dX5_offers_137 (by decide) ?_
  obtain ⟨b7, eb7, hF⟩ := hF
  refine zq_st (st2 := [.int (-1), .ref b7]) (by rw [eb7]; first | done | rfl) ?_
  obtain ⟨hc, hF⟩ := hF
  refine zc_puti X hH hc 12 612 ("ChurchyardBook$Grave", "at", "I", false) (by decide +kernel) rfl q689 (Or.inl rfl) (ty := .int) (by decide +kernel) rfl rfl (Or.inl rfl) dX5_offers_138 (fun h8 H locs eh8 hH => ?_)
  have hF := hF h8 eh8
  refine zq_aload_n hx hb dX5_offers_141 rfl (lv_at hl 1 rfl) ?_
  refine lv_aload_n hx hb dX5_offers_142 rfl (lv_at hl 0 rfl) ?_
  obtain ⟨hc, hF⟩ := hF
  refine zc_getf X hH hc 3 203 ("ChurchyardBook$Book", "today", "I", false) (by decide +kernel) (v := .int (zi h8 203 o)) rfl q194 (Or.inl rfl) dX5_offers_143 ?_
  refine zq_st (st2 := [.int (zi h8 203 o), .ref b7]) (by rw [eb7]; first | done | rfl) ?_
  refine zc_call (c1 := 0) (s1 := 0) (rest := []) hH hB (Nat.zero_le _) (Nat.zero_le _) (fun hf => rv_passOn_5 X hH q1078 hF ⟨Nat.le_of_ble_eq_true rfl, Nat.le_of_ble_eq_true rfl, Nat.le_of_ble_eq_true rfl⟩ hl.1 (st0 := [.int (zi h8 203 o), .ref b7]) rfl (Nat.le_of_ble_eq_true rfl) dX5_offers_146 hf) (fun E9 ce9 q9 h9 H locs hx9 => False.elim hx9) (fun v9 h9 H locs hv9 hH hB => ?_)
  obtain ⟨rfl, hF⟩ := hv9
  exact zc_vret X hH hB rfl ⟨rfl, hF⟩ dX5_offers_149
set_option maxHeartbeats 4000000 in
set_option maxRecDepth 100000 in
theorem wc_X5_offers_106 {p : Program} {l : Launch} {e : Env} {s : State} {m : MethodId} {args : Array Value} {below : List Frame} {meth : Method} {c : Code} {D : va_G} {cA : Nat → ClassId} {P : Nat → Prop} {G : Nat × Nat × Nat} {C S : Nat} {o : Nat} {Q : ZH → Prop} (X : zc_Cx p l s m args meth c cX5_offers 4 none "ChurchyardBook$Book" D cA P G) (hN : meth.name = "offers") (hT : c.exceptionTable.toList = tableOf []) :
    ∀ (h : ZH) (bc bs : Nat) (q1 : Option Nat) (q2 : Option Nat) (v3 : Int32) (u1 : Option Nat) (u2 : Option Nat), fc_X5_offers_106 G o Q h bc bs q1 q2 v3 u1 u2 → ∀ (H : Heap) (locs : List Loc) (ls : Array Slot) (cells slots : Nat), cells + bc ≤ C ∧ slots + bs ≤ S → lv_has ls 4 [(0, .ref o), (1, va_rf q1), (2, va_rf q2), (3, .int v3)] → zc_H D cA P h s H locs → W p l e (zc_Ro 10 C S) s m args below meth c H locs cells slots (vx_MQ below (zc_Q D cA P (fun v h' => v = none ∧ Q h')) (zc_X D cA P zc_no) args s C S P) (F0 m 106 ls [va_rf u2, va_rf u1, .ref o]) := by
  have hx := X.1
  have hb := X.2.1
  have hown := X.2.2.2.1
  have hts := X.2.2.2.2.1
  intro h bc bs q1 q2 v3 u1 u2 hF
  intro H locs ls cells slots hB hl hH
  unfold fc_X5_offers_106 at hF
  obtain ⟨hc, hF⟩ := hF
  obtain ⟨c1, s2, hc1, hs1, hF⟩ := hF
  refine zc_call (c1 := c1) (s1 := s2) (rest := []) hH hB hc1 hs1 (fun hf => zc_rV X hH hc (by decide) rfl (As := [va_rf u1, va_rf u2]) (wc_X5_orders X.2.2.2.2.2.2.2.1 hF) (lw_V q1019 q1021 qs12 q91 q1022) ⟨rfl, by decide, by decide, rfl⟩ ⟨Nat.le_of_ble_eq_true rfl, Nat.le_of_ble_eq_true rfl, Nat.le_of_ble_eq_true rfl⟩ rfl hl.1 (st0 := [va_rf u2, va_rf u1, .ref o]) rfl (Nat.le_of_ble_eq_true rfl) dX5_offers_106 hf) (fun E9 ce9 q9 h9 H locs hx9 => False.elim hx9) (fun v9 h3 H locs hv9 hH hB => ?_)
  obtain ⟨rfl, hF⟩ := hv9
  refine lv_aload_n hx hb dX5_offers_109 rfl (lv_at hl 0 rfl) ?_
  refine zq_aload_n hx hb dX5_offers_110 rfl (lv_at hl 1 rfl) ?_
  refine lv_iload_n hx hb dX5_offers_111 rfl (lv_at hl 3 rfl) ?_
  refine lv_if_eq (tgt := 122) hx hb dX5_offers_112 (by decide) (fun cd => ?_) (fun cd => ?_)
  · have hF := hF.1 cd
    refine zq_aload_n hx hb dX5_offers_122 rfl (lv_at hl 2 rfl) ?_
    obtain ⟨b4, eb4, hF⟩ := hF
    refine zq_st (st2 := [.ref b4, va_rf q1, .ref o]) (by rw [eb4]; first | done | rfl) ?_
    obtain ⟨hc, hF⟩ := hF
    refine zc_getf X hH hc 6 706 ("ChurchyardBook$Person", "second", "LChurchyardBook$Person;", false) (by decide +kernel) (v := va_rf (zr h3 706 b4)) rfl q880 (Or.inl rfl) dX5_offers_123 ?_
    exact wc_X5_offers_126 X hN hT h3 (bc - c1) (bs - s2) q1 q2 q1 (zr h3 706 b4) hF _ _ _ _ _ hB (lv_sub hl [0, 1, 2] rfl) hH
  · have hF := hF.2 cd
    refine zq_aload_n hx hb dX5_offers_115 rfl (lv_at hl 2 rfl) ?_
    obtain ⟨b5, eb5, hF⟩ := hF
    refine zq_st (st2 := [.ref b5, va_rf q1, .ref o]) (by rw [eb5]; first | done | rfl) ?_
    obtain ⟨hc, hF⟩ := hF
    refine zc_getf X hH hc 5 705 ("ChurchyardBook$Person", "first", "LChurchyardBook$Person;", false) (by decide +kernel) (v := va_rf (zr h3 705 b5)) rfl q877 (Or.inl rfl) dX5_offers_116 ?_
    refine lv_goto (tgt := 126) hx hb dX5_offers_119 (by decide) ?_
    exact wc_X5_offers_126 X hN hT h3 (bc - c1) (bs - s2) q1 q2 q1 (zr h3 705 b5) hF _ _ _ _ _ hB (lv_sub hl [0, 1, 2] rfl) hH
set_option maxHeartbeats 4000000 in
set_option maxRecDepth 100000 in
theorem wc_X5_offers_88 {p : Program} {l : Launch} {e : Env} {s : State} {m : MethodId} {args : Array Value} {below : List Frame} {meth : Method} {c : Code} {D : va_G} {cA : Nat → ClassId} {P : Nat → Prop} {G : Nat × Nat × Nat} {C S : Nat} {o : Nat} {Q : ZH → Prop} (X : zc_Cx p l s m args meth c cX5_offers 4 none "ChurchyardBook$Book" D cA P G) (hN : meth.name = "offers") (hT : c.exceptionTable.toList = tableOf []) :
    ∀ (h : ZH) (bc bs : Nat) (q1 : Option Nat) (q2 : Option Nat) (t0 : Int32), fc_X5_offers_88 G o Q h bc bs q1 q2 t0 → ∀ (H : Heap) (locs : List Loc) (ls : Array Slot) (cells slots : Nat), cells + bc ≤ C ∧ slots + bs ≤ S → lv_has ls 4 [(0, .ref o), (1, va_rf q1), (2, va_rf q2)] → zc_H D cA P h s H locs → W p l e (zc_Ro 10 C S) s m args below meth c H locs cells slots (vx_MQ below (zc_Q D cA P (fun v h' => v = none ∧ Q h')) (zc_X D cA P zc_no) args s C S P) (F0 m 88 ls [.int t0]) := by
  have hx := X.1
  have hb := X.2.1
  have hown := X.2.2.2.1
  have hts := X.2.2.2.2.1
  intro h bc bs q1 q2 t0 hF
  intro H locs ls cells slots hB hl hH
  unfold fc_X5_offers_88 at hF
  refine lv_istore_n (lv' := [(3, .int t0), (0, .ref o), (1, va_rf q1), (2, va_rf q2)]) hx hb dX5_offers_88 rfl hl (by decide) (by cases q2 <;> rfl) (fun ls hl => ?_)
  refine lv_aload_n hx hb dX5_offers_89 rfl (lv_at hl 1 rfl) ?_
  refine zq_aload_n hx hb dX5_offers_90 rfl (lv_at hl 2 rfl) ?_
  refine lv_iload_n hx hb dX5_offers_91 rfl (lv_at hl 0 rfl) ?_
  refine lv_if_eq (tgt := 102) hx hb dX5_offers_92 (by decide) (fun cd => ?_) (fun cd => ?_)
  · have hF := hF.1 cd
    refine zq_aload_n hx hb dX5_offers_102 rfl (lv_at hl 3 rfl) ?_
    obtain ⟨b1, eb1, hF⟩ := hF
    refine zq_st (st2 := [.ref b1, va_rf q1, .ref o]) (by rw [eb1]; first | done | rfl) ?_
    obtain ⟨hc, hF⟩ := hF
    refine zc_getf X hH hc 5 705 ("ChurchyardBook$Person", "first", "LChurchyardBook$Person;", false) (by decide +kernel) (v := va_rf (zr h 705 b1)) rfl q877 (Or.inl rfl) dX5_offers_103 ?_
    exact wc_X5_offers_106 X hN hT h bc bs q1 q2 t0 q1 (zr h 705 b1) hF _ _ _ _ _ hB (lv_sub hl [1, 2, 3, 0] rfl) hH
  · have hF := hF.2 cd
    refine zq_aload_n hx hb dX5_offers_95 rfl (lv_at hl 3 rfl) ?_
    obtain ⟨b2, eb2, hF⟩ := hF
    refine zq_st (st2 := [.ref b2, va_rf q1, .ref o]) (by rw [eb2]; first | done | rfl) ?_
    obtain ⟨hc, hF⟩ := hF
    refine zc_getf X hH hc 6 706 ("ChurchyardBook$Person", "second", "LChurchyardBook$Person;", false) (by decide +kernel) (v := va_rf (zr h 706 b2)) rfl q880 (Or.inl rfl) dX5_offers_96 ?_
    refine lv_goto (tgt := 106) hx hb dX5_offers_99 (by decide) ?_
    exact wc_X5_offers_106 X hN hT h bc bs q1 q2 t0 q1 (zr h 706 b2) hF _ _ _ _ _ hB (lv_sub hl [1, 2, 3, 0] rfl) hH
set_option maxHeartbeats 4000000 in
set_option maxRecDepth 100000 in
theorem wc_X5_offers_87 {p : Program} {l : Launch} {e : Env} {s : State} {m : MethodId} {args : Array Value} {below : List Frame} {meth : Method} {c : Code} {D : va_G} {cA : Nat → ClassId} {P : Nat → Prop} {G : Nat × Nat × Nat} {C S : Nat} {o : Nat} {Q : ZH → Prop} (X : zc_Cx p l s m args meth c cX5_offers 4 none "ChurchyardBook$Book" D cA P G) (hN : meth.name = "offers") (hT : c.exceptionTable.toList = tableOf []) :
    ∀ (h : ZH) (bc bs : Nat) (q1 : Option Nat) (q2 : Option Nat), fc_X5_offers_87 G o Q h bc bs q1 q2 → ∀ (H : Heap) (locs : List Loc) (ls : Array Slot) (cells slots : Nat), cells + bc ≤ C ∧ slots + bs ≤ S → lv_has ls 4 [(0, .ref o), (1, va_rf q1), (2, va_rf q2)] → zc_H D cA P h s H locs → W p l e (zc_Ro 10 C S) s m args below meth c H locs cells slots (vx_MQ below (zc_Q D cA P (fun v h' => v = none ∧ Q h')) (zc_X D cA P zc_no) args s C S P) (F0 m 87 ls []) := by
  have hx := X.1
  have hb := X.2.1
  have hown := X.2.2.2.1
  have hts := X.2.2.2.2.1
  intro h bc bs q1 q2 hF
  intro H locs ls cells slots hB hl hH
  unfold fc_X5_offers_87 at hF
  refine lv_iconst (v := 0) hx hb dX5_offers_87 (by decide) ?_
  exact wc_X5_offers_88 X hN hT h bc bs q1 q2 0 hF _ _ _ _ _ hB (lv_sub hl [0, 1, 2] rfl) hH
set_option maxHeartbeats 4000000 in
set_option maxRecDepth 100000 in
theorem wc_X5_offers {l : Launch} {D : va_G} {cA : Nat → ClassId} {P : Nat → Prop} {G : Nat × Nat × Nat} {o : Nat} {Q : ZH → Prop} {h : ZH} {C S : Nat} {q1 : Option Nat} {q2 : Option Nat} (hl9 : l.stackTraces = false) (hF : fc_X5_offers G o Q h C S q1 q2) :
    zc_M l yX5_offers (ws_ yX5_offers cX5_offers 4 none) 10 D cA P G [.ref o, va_rf q1, va_rf q2] h C S (fun v h' => v = none ∧ Q h') zc_no := by
  refine zc_ofF hl9 rfl (by decide +kernel) (zc_slle (by simp [zc_k1, zc_kI, zc_kR]) (Nat.le_of_ble_eq_true rfl)) ?_
  intro p e s m args below meth c H locs ls X hN hT hH hl
  have hx := X.1
  have hb := X.2.1
  have hown := X.2.2.2.1
  have hts := X.2.2.2.2.1
  have hl : lv_has ls 4 [(0, .ref o), (1, va_rf q1), (2, va_rf q2)] := by
    have h9 := hl
    rw [zc_ags _ (by simp [zc_k1, zc_kI, zc_kR]) 0] at h9
    exact h9
  have hB : 0 + C ≤ C ∧ 0 + S ≤ S := ⟨by omega, by omega⟩
  unfold fc_X5_offers at hF
  refine zq_aload_n hx hb dX5_offers_0 rfl (lv_at hl 1 rfl) ?_
  refine lv_iconst (v := 2) hx hb dX5_offers_1 (by decide) ?_
  obtain ⟨b1, eb1, hF⟩ := hF
  refine zq_st (st2 := [.int 2, .ref b1]) (by rw [eb1]; first | done | rfl) ?_
  obtain ⟨hc, hF⟩ := hF
  refine zc_puti X hH hc 6 606 ("ChurchyardBook$Grave", "state", "I", false) (by decide +kernel) rfl q672 (Or.inl rfl) (ty := .int) (by decide +kernel) rfl rfl (Or.inl rfl) dX5_offers_2 (fun h2 H locs eh2 hH => ?_)
  have hF := hF h2 eh2
  refine zq_aload_n hx hb dX5_offers_5 rfl (lv_at hl 1 rfl) ?_
  refine lv_null hx hb dX5_offers_6 ?_
  refine zq_st (st2 := [.null, .ref b1]) (by rw [eb1]; first | done | rfl) ?_
  obtain ⟨hc, hF⟩ := hF
  refine zc_putr X hH hc 7 607 ("ChurchyardBook$Grave", "holder", "LChurchyardBook$Person;", false) (by decide +kernel) rfl q675 (Or.inl rfl) (x := none) rfl (ty := (.object "ChurchyardBook$Person")) (by decide +kernel) rfl (Or.inl rfl) dX5_offers_7 (fun h3 H locs eh3 hH => ?_)
  have hF := hF h3 eh3
  refine zq_aload_n hx hb dX5_offers_10 rfl (lv_at hl 1 rfl) ?_
  refine lv_null hx hb dX5_offers_11 ?_
  refine zq_st (st2 := [.null, .ref b1]) (by rw [eb1]; first | done | rfl) ?_
  obtain ⟨hc, hF⟩ := hF
  refine zc_putr X hH hc 13 613 ("ChurchyardBook$Grave", "told", "[Z", false) (by decide +kernel) rfl q692 (Or.inl rfl) (x := none) rfl (ty := (.array .boolean)) (by decide +kernel) rfl (Or.inl rfl) dX5_offers_12 (fun h4 H locs eh4 hH => ?_)
  have hF := hF h4 eh4
  refine zq_aload_n hx hb dX5_offers_15 rfl (lv_at hl 1 rfl) ?_
  refine zq_aload_n hx hb dX5_offers_16 rfl (lv_at hl 2 rfl) ?_
  refine zq_st (st2 := [va_rf q2, .ref b1]) (by rw [eb1]; first | done | rfl) ?_
  obtain ⟨hc, hF⟩ := hF
  refine zc_putr X hH hc 14 614 ("ChurchyardBook$Grave", "from", "LChurchyardBook$Person;", false) (by decide +kernel) rfl q694 (Or.inl rfl) (x := q2) rfl (ty := (.object "ChurchyardBook$Person")) (by decide +kernel) rfl (Or.inl rfl) dX5_offers_17 (fun h5 H locs eh5 hH => ?_)
  have hF := hF h5 eh5
  refine zq_aload_n hx hb dX5_offers_20 rfl (lv_at hl 1 rfl) ?_
  refine zq_st (st2 := [.ref b1]) (by rw [eb1]; first | done | rfl) ?_
  obtain ⟨hc, hF⟩ := hF
  refine zc_getf X hH hc 11 611 ("ChurchyardBook$Grave", "order", "Ljava/util/ArrayList;", true) (by decide +kernel) (v := va_rf (zr h5 611 b1)) rfl q686 (Or.inl rfl) dX5_offers_21 ?_
  obtain ⟨b6, eb6, hF⟩ := hF
  refine zq_st (st2 := [.ref b6]) (by rw [eb6]; first | done | rfl) ?_
  obtain ⟨hc, hF⟩ := hF
  refine zc_call (c1 := 0) (s1 := 0) (rest := []) hH hB (Nat.zero_le _) (Nat.zero_le _) (fun hf => zc_rV X hH hc (by decide) rfl (As := []) (wc_J2_clear X.2.2.2.2.2.2.2.1 hF) (lw_V q1018 q980 q981 q94 q982) ⟨rfl, by decide, by decide, rfl⟩ ⟨Nat.le_of_ble_eq_true rfl, Nat.le_of_ble_eq_true rfl, Nat.le_of_ble_eq_true rfl⟩ rfl hl.1 (st0 := [.ref b6]) rfl (Nat.le_of_ble_eq_true rfl) dX5_offers_24 hf) (fun E9 ce9 q9 h9 H locs hx9 => False.elim hx9) (fun v9 h7 H locs hv9 hH hB => ?_)
  obtain ⟨rfl, hF⟩ := hv9
  refine lv_aload_n hx hb dX5_offers_27 rfl (lv_at hl 0 rfl) ?_
  refine zq_aload_n hx hb dX5_offers_28 rfl (lv_at hl 1 rfl) ?_
  refine zq_aload_n hx hb dX5_offers_29 rfl (lv_at hl 2 rfl) ?_
  obtain ⟨b8, eb8, hF⟩ := hF
  refine zq_st (st2 := [.ref b8, va_rf q1, .ref o]) (by rw [eb8]; first | done | rfl) ?_
  obtain ⟨hc, hF⟩ := hF
  refine zc_getf X hH hc 7 707 ("ChurchyardBook$Person", "heir", "LChurchyardBook$Person;", false) (by decide +kernel) (v := va_rf (zr h7 707 b8)) rfl q882 (Or.inl rfl) dX5_offers_30 ?_
  obtain ⟨hc, hF⟩ := hF
  obtain ⟨c9, s10, hc1, hs1, hF⟩ := hF
  refine zc_call (c1 := c9) (s1 := s10) (rest := []) hH hB hc1 hs1 (fun hf => zc_rV X hH hc (by decide) rfl (As := [va_rf q1, va_rf (zr h7 707 b8)]) (wc_X5_orders X.2.2.2.2.2.2.2.1 hF) (lw_V q1019 q1021 qs12 q91 q1022) ⟨rfl, by decide, by decide, rfl⟩ ⟨Nat.le_of_ble_eq_true rfl, Nat.le_of_ble_eq_true rfl, Nat.le_of_ble_eq_true rfl⟩ rfl hl.1 (st0 := [va_rf (zr h7 707 b8), va_rf q1, .ref o]) rfl (Nat.le_of_ble_eq_true rfl) dX5_offers_33 hf) (fun E9 ce9 q9 h9 H locs hx9 => False.elim hx9) (fun v9 h11 H locs hv9 hH hB => ?_)
  obtain ⟨rfl, hF⟩ := hv9
  refine lv_aload_n hx hb dX5_offers_36 rfl (lv_at hl 0 rfl) ?_
  refine zq_aload_n hx hb dX5_offers_37 rfl (lv_at hl 1 rfl) ?_
  refine zq_aload_n hx hb dX5_offers_38 rfl (lv_at hl 2 rfl) ?_
  refine zq_st (st2 := [.ref b8, va_rf q1, .ref o]) (by rw [eb8]; first | done | rfl) ?_
  obtain ⟨hc, hF⟩ := hF
  refine zc_getf X hH hc 4 704 ("ChurchyardBook$Person", "wed", "LChurchyardBook$Person;", false) (by decide +kernel) (v := va_rf (zr h11 704 b8)) rfl q873 (Or.inl rfl) dX5_offers_39 ?_
  obtain ⟨hc, hF⟩ := hF
  obtain ⟨c12, s13, hc1, hs1, hF⟩ := hF
  refine zc_call (c1 := c12) (s1 := s13) (rest := []) hH hB hc1 hs1 (fun hf => zc_rV X hH hc (by decide) rfl (As := [va_rf q1, va_rf (zr h11 704 b8)]) (wc_X5_orders X.2.2.2.2.2.2.2.1 hF) (lw_V q1019 q1021 qs12 q91 q1022) ⟨rfl, by decide, by decide, rfl⟩ ⟨Nat.le_of_ble_eq_true rfl, Nat.le_of_ble_eq_true rfl, Nat.le_of_ble_eq_true rfl⟩ rfl hl.1 (st0 := [va_rf (zr h11 704 b8), va_rf q1, .ref o]) rfl (Nat.le_of_ble_eq_true rfl) dX5_offers_42 hf) (fun E9 ce9 q9 h9 H locs hx9 => False.elim hx9) (fun v9 h14 H locs hv9 hH hB => ?_)
  obtain ⟨rfl, hF⟩ := hv9
  refine lv_aload_n hx hb dX5_offers_45 rfl (lv_at hl 0 rfl) ?_
  refine zq_aload_n hx hb dX5_offers_46 rfl (lv_at hl 1 rfl) ?_
  refine zq_aload_n hx hb dX5_offers_47 rfl (lv_at hl 2 rfl) ?_
  refine lv_iconst (v := 1) hx hb dX5_offers_48 (by decide) ?_
  obtain ⟨hc, hF⟩ := hF
  obtain ⟨c15, s16, hc1, hs1, hF⟩ := hF
  refine zc_call (c1 := c15) (s1 := s16) (rest := []) hH hB hc1 hs1 (fun hf => zc_rV X hH hc (by decide) rfl (As := [va_rf q1, va_rf q2, .int 1]) (wc_X5_ordersByAge X.2.2.2.2.2.2.2.1 hF) (lw_V q1060 q1062 qs13 q91 q1063) ⟨rfl, by decide, by decide, rfl⟩ ⟨Nat.le_of_ble_eq_true rfl, Nat.le_of_ble_eq_true rfl, Nat.le_of_ble_eq_true rfl⟩ rfl hl.1 (st0 := [.int 1, va_rf q2, va_rf q1, .ref o]) rfl (Nat.le_of_ble_eq_true rfl) dX5_offers_49 hf) (fun E9 ce9 q9 h9 H locs hx9 => False.elim hx9) (fun v9 h17 H locs hv9 hH hB => ?_)
  obtain ⟨rfl, hF⟩ := hv9
  refine zq_aload_n hx hb dX5_offers_52 rfl (lv_at hl 2 rfl) ?_
  refine zq_st (st2 := [.ref b8]) (by rw [eb8]; first | done | rfl) ?_
  obtain ⟨hc, hF⟩ := hF
  refine zc_getf X hH hc 5 705 ("ChurchyardBook$Person", "first", "LChurchyardBook$Person;", false) (by decide +kernel) (v := va_rf (zr h17 705 b8)) rfl q877 (Or.inl rfl) dX5_offers_53 ?_
  refine zq_ifnull (tgt := 87) hx hb dX5_offers_56 (by decide) (fun cd => ?_) (fun b18 eb18 => ?_)
  · have hF := hF.1 cd
    exact wc_X5_offers_87 X hN hT h17 (((C - c9) - c12) - c15) (((S - s10) - s13) - s16) q1 q2 hF _ _ _ _ _ hB (lv_sub hl [0, 1, 2] rfl) hH
  · have hF := hF.2 b18 eb18
    refine zq_aload_n hx hb dX5_offers_59 rfl (lv_at hl 2 rfl) ?_
    refine zq_st (st2 := [.ref b8]) (by rw [eb8]; first | done | rfl) ?_
    obtain ⟨hc, hF⟩ := hF
    refine zc_getf X hH hc 6 706 ("ChurchyardBook$Person", "second", "LChurchyardBook$Person;", false) (by decide +kernel) (v := va_rf (zr h17 706 b8)) rfl q880 (Or.inl rfl) dX5_offers_60 ?_
    refine zq_ifnull (tgt := 87) hx hb dX5_offers_63 (by decide) (fun cd => ?_) (fun b19 eb19 => ?_)
    · have hF := hF.1 cd
      exact wc_X5_offers_87 X hN hT h17 (((C - c9) - c12) - c15) (((S - s10) - s13) - s16) q1 q2 hF _ _ _ _ _ hB (lv_sub hl [0, 1, 2] rfl) hH
    · have hF := hF.2 b19 eb19
      refine zq_aload_n hx hb dX5_offers_66 rfl (lv_at hl 2 rfl) ?_
      refine zq_st (st2 := [.ref b8]) (by rw [eb8]; first | done | rfl) ?_
      obtain ⟨hc, hF⟩ := hF
      refine zc_getf X hH hc 6 706 ("ChurchyardBook$Person", "second", "LChurchyardBook$Person;", false) (by decide +kernel) (v := va_rf (zr h17 706 b8)) rfl q880 (Or.inl rfl) dX5_offers_67 ?_
      refine zq_st (st2 := [.ref b19]) (by rw [eb19]; first | done | rfl) ?_
      obtain ⟨hc, hF⟩ := hF
      refine zc_getf X hH hc 0 700 ("ChurchyardBook$Person", "number", "I", true) (by decide +kernel) (v := .int (zi h17 700 b19)) rfl q863 (Or.inl rfl) dX5_offers_70 ?_
      refine zq_aload_n hx hb dX5_offers_73 rfl (lv_at hl 2 rfl) ?_
      refine zq_st (st2 := [.ref b8, .int (zi h17 700 b19)]) (by rw [eb8]; first | done | rfl) ?_
      obtain ⟨hc, hF⟩ := hF
      refine zc_getf X hH hc 5 705 ("ChurchyardBook$Person", "first", "LChurchyardBook$Person;", false) (by decide +kernel) (v := va_rf (zr h17 705 b8)) rfl q877 (Or.inl rfl) dX5_offers_74 ?_
      refine zq_st (st2 := [.ref b18, .int (zi h17 700 b19)]) (by rw [eb18]; first | done | rfl) ?_
      obtain ⟨hc, hF⟩ := hF
      refine zc_getf X hH hc 0 700 ("ChurchyardBook$Person", "number", "I", true) (by decide +kernel) (v := .int (zi h17 700 b18)) rfl q863 (Or.inl rfl) dX5_offers_77 ?_
      refine lv_icmp_ge (tgt := 87) hx hb dX5_offers_80 (by decide) (fun cd => ?_) (fun cd => ?_)
      · have hF := hF.1 cd
        exact wc_X5_offers_87 X hN hT h17 (((C - c9) - c12) - c15) (((S - s10) - s13) - s16) q1 q2 hF _ _ _ _ _ hB (lv_sub hl [0, 1, 2] rfl) hH
      · have hF := hF.2 cd
        refine lv_iconst (v := 1) hx hb dX5_offers_83 (by decide) ?_
        refine lv_goto (tgt := 88) hx hb dX5_offers_84 (by decide) ?_
        exact wc_X5_offers_88 X hN hT h17 (((C - c9) - c12) - c15) (((S - s10) - s13) - s16) q1 q2 1 hF _ _ _ _ _ hB (lv_sub hl [0, 1, 2] rfl) hH
set_option maxHeartbeats 4000000 in
set_option maxRecDepth 100000 in
theorem wc_X5_dies_120 {p : Program} {l : Launch} {e : Env} {s : State} {m : MethodId} {args : Array Value} {below : List Frame} {meth : Method} {c : Code} {D : va_G} {cA : Nat → ClassId} {P : Nat → Prop} {G : Nat × Nat × Nat} {C S : Nat} {o : Nat} {Q : Int32 → ZH → Prop} {XE : String → Nat → ZH → Prop} {K36 : ZH → Nat → Nat → Option Nat → Int32 → Int32 → Prop} (X : zc_Cx p l s m args meth c cX5_dies 6 (some .int) "ChurchyardBook$Book" D cA P G) (hN : meth.name = "dies") (hT : c.exceptionTable.toList = tableOf []) (hK36 : ∀ (h : ZH) (bc bs : Nat) (q2 : Option Nat) (v3 : Int32) (v4 : Int32), K36 h bc bs q2 v3 v4 → ∀ (H : Heap) (locs : List Loc) (ls : Array Slot) (cells slots : Nat), cells + bc ≤ C ∧ slots + bs ≤ S → lv_has ls 6 [(0, .ref o), (2, va_rf q2), (3, .int v3), (4, .int v4)] → zc_H D cA P h s H locs → W p l e (zc_Ro 11 C S) s m args below meth c H locs cells slots (vx_MQ below (zc_Q D cA P (fun v h' => ∃ z : Int32, v = some (.int z) ∧ Q z h')) (zc_X D cA P XE) args s C S P) (F0 m 36 ls [])) :
    ∀ (h : ZH) (bc bs : Nat) (q2 : Option Nat) (v3 : Int32) (v4 : Int32), fc_X5_dies_120 G o Q XE K36 h bc bs q2 v3 v4 → ∀ (H : Heap) (locs : List Loc) (ls : Array Slot) (cells slots : Nat), cells + bc ≤ C ∧ slots + bs ≤ S → lv_has ls 6 [(0, .ref o), (2, va_rf q2), (3, .int v3), (4, .int v4)] → zc_H D cA P h s H locs → W p l e (zc_Ro 11 C S) s m args below meth c H locs cells slots (vx_MQ below (zc_Q D cA P (fun v h' => ∃ z : Int32, v = some (.int z) ∧ Q z h')) (zc_X D cA P XE) args s C S P) (F0 m 120 ls []) := by
  have hx := X.1
  have hb := X.2.1
  have hown := X.2.2.2.1
  have hts := X.2.2.2.2.1
  intro h bc bs q2 v3 v4 hF
  intro H locs ls cells slots hB hl hH
  unfold fc_X5_dies_120 at hF
  obtain ⟨x1, ex1⟩ : ∃ z : Int32, z = v4 + 1 := ⟨_, rfl⟩
  have hF := hF x1 ex1
  refine lv_iinc (v := x1) (lv' := [(4, .int x1), (0, .ref o), (2, va_rf q2), (3, .int v3)]) hx hb dX5_dies_120 hl (k := 3) rfl (by rw [ex1]; rfl) (by decide) rfl (fun ls hl => ?_)
  refine lv_goto (tgt := 36) hx hb dX5_dies_123 (by decide) ?_
  exact hK36 h bc bs q2 v3 x1 hF _ _ _ _ _ hB (lv_sub hl [1, 2, 3, 0] rfl) hH
set_option maxHeartbeats 4000000 in
set_option maxRecDepth 100000 in
theorem wc_X5_dies_93 {p : Program} {l : Launch} {e : Env} {s : State} {m : MethodId} {args : Array Value} {below : List Frame} {meth : Method} {c : Code} {D : va_G} {cA : Nat → ClassId} {P : Nat → Prop} {G : Nat × Nat × Nat} {C S : Nat} {o : Nat} {Q : Int32 → ZH → Prop} {XE : String → Nat → ZH → Prop} {K36 : ZH → Nat → Nat → Option Nat → Int32 → Int32 → Prop} (X : zc_Cx p l s m args meth c cX5_dies 6 (some .int) "ChurchyardBook$Book" D cA P G) (hN : meth.name = "dies") (hT : c.exceptionTable.toList = tableOf []) (hK36 : ∀ (h : ZH) (bc bs : Nat) (q2 : Option Nat) (v3 : Int32) (v4 : Int32), K36 h bc bs q2 v3 v4 → ∀ (H : Heap) (locs : List Loc) (ls : Array Slot) (cells slots : Nat), cells + bc ≤ C ∧ slots + bs ≤ S → lv_has ls 6 [(0, .ref o), (2, va_rf q2), (3, .int v3), (4, .int v4)] → zc_H D cA P h s H locs → W p l e (zc_Ro 11 C S) s m args below meth c H locs cells slots (vx_MQ below (zc_Q D cA P (fun v h' => ∃ z : Int32, v = some (.int z) ∧ Q z h')) (zc_X D cA P XE) args s C S P) (F0 m 36 ls [])) :
    ∀ (h : ZH) (bc bs : Nat) (q2 : Option Nat) (v3 : Int32) (v4 : Int32) (q5 : Option Nat), fc_X5_dies_93 G o Q XE K36 h bc bs q2 v3 v4 q5 → ∀ (H : Heap) (locs : List Loc) (ls : Array Slot) (cells slots : Nat), cells + bc ≤ C ∧ slots + bs ≤ S → lv_has ls 6 [(0, .ref o), (2, va_rf q2), (3, .int v3), (4, .int v4), (5, va_rf q5)] → zc_H D cA P h s H locs → W p l e (zc_Ro 11 C S) s m args below meth c H locs cells slots (vx_MQ below (zc_Q D cA P (fun v h' => ∃ z : Int32, v = some (.int z) ∧ Q z h')) (zc_X D cA P XE) args s C S P) (F0 m 93 ls []) := by
  have hx := X.1
  have hb := X.2.1
  have hown := X.2.2.2.1
  have hts := X.2.2.2.2.1
  intro h bc bs q2 v3 v4 q5 hF
  intro H locs ls cells slots hB hl hH
  unfold fc_X5_dies_93 at hF
  refine zq_aload hx hb dX5_dies_93 (lv_at hl 4 rfl) ?_
  obtain ⟨b1, eb1, hF⟩ := hF
  refine zq_st (st2 := [.ref b1]) (by rw [eb1]; first | done | rfl) ?_
  obtain ⟨hc, hF⟩ := hF
  refine zc_getf X hH hc 6 606 ("ChurchyardBook$Grave", "state", "I", false) (by decide +kernel) (v := .int (zi h 606 b1)) rfl q672 (Or.inl rfl) dX5_dies_95 ?_
  refine lv_iconst (v := 2) hx hb dX5_dies_98 (by decide) ?_
  refine lv_icmp_ne (tgt := 120) hx hb dX5_dies_99 (by decide) (fun cd => ?_) (fun cd => ?_)
  · have hF := hF.1 cd
    exact wc_X5_dies_120 X hN hT hK36 h bc bs q2 v3 v4 hF _ _ _ _ _ hB (lv_sub hl [0, 1, 2, 3] rfl) hH
  · have hF := hF.2 cd
    refine zq_aload hx hb dX5_dies_102 (lv_at hl 4 rfl) ?_
    refine zq_st (st2 := [.ref b1]) (by rw [eb1]; first | done | rfl) ?_
    obtain ⟨hc, hF⟩ := hF
    refine zc_getf X hH hc 9 609 ("ChurchyardBook$Grave", "offered", "LChurchyardBook$Person;", false) (by decide +kernel) (v := va_rf (zr h 609 b1)) rfl q681 (Or.inl rfl) dX5_dies_104 ?_
    refine zq_aload_n hx hb dX5_dies_107 rfl (lv_at hl 1 rfl) ?_
    refine lv_acmp_ne (rx := (zr h 609 b1)) (ry := q2) (tgt := 120) hx hb dX5_dies_108 (by decide) (fun cd => ?_) (fun cd => ?_)
    · have hF := hF.1 cd
      exact wc_X5_dies_120 X hN hT hK36 h bc bs q2 v3 v4 hF _ _ _ _ _ hB (lv_sub hl [0, 1, 2, 3] rfl) hH
    · have hF := hF.2 cd
      refine zq_aload hx hb dX5_dies_111 (lv_at hl 4 rfl) ?_
      refine lv_aload_n hx hb dX5_dies_113 rfl (lv_at hl 0 rfl) ?_
      obtain ⟨hc, hF⟩ := hF
      refine zc_getf X hH hc 3 203 ("ChurchyardBook$Book", "today", "I", false) (by decide +kernel) (v := .int (zi h 203 o)) rfl q194 (Or.inl rfl) dX5_dies_114 ?_
      refine zq_st (st2 := [.int (zi h 203 o), .ref b1]) (by rw [eb1]; first | done | rfl) ?_
      refine zc_call (c1 := 0) (s1 := 0) (rest := []) hH hB (Nat.zero_le _) (Nat.zero_le _) (fun hf => rv_passOn_5 X hH q1078 hF ⟨Nat.le_of_ble_eq_true rfl, Nat.le_of_ble_eq_true rfl, Nat.le_of_ble_eq_true rfl⟩ hl.1 (st0 := [.int (zi h 203 o), .ref b1]) rfl (Nat.le_of_ble_eq_true rfl) dX5_dies_117 hf) (fun E9 ce9 q9 h9 H locs hx9 => False.elim hx9) (fun v9 h2 H locs hv9 hH hB => ?_)
      obtain ⟨rfl, hF⟩ := hv9
      exact wc_X5_dies_120 X hN hT hK36 h2 bc bs q2 v3 v4 hF _ _ _ _ _ hB (lv_sub hl [0, 1, 2, 3] rfl) hH
set_option maxHeartbeats 4000000 in
set_option maxRecDepth 100000 in
theorem wc_X5_dies_36 {p : Program} {l : Launch} {e : Env} {s : State} {m : MethodId} {args : Array Value} {below : List Frame} {meth : Method} {c : Code} {D : va_G} {cA : Nat → ClassId} {P : Nat → Prop} {G : Nat × Nat × Nat} {C S : Nat} {o : Nat} {Q : Int32 → ZH → Prop} {XE : String → Nat → ZH → Prop} (X : zc_Cx p l s m args meth c cX5_dies 6 (some .int) "ChurchyardBook$Book" D cA P G) (hN : meth.name = "dies") (hT : c.exceptionTable.toList = tableOf []) :
    ∀ (n : Nat) (h : ZH) (bc bs : Nat) (q2 : Option Nat) (v3 : Int32) (v4 : Int32), fc_X5_dies_36 G o Q XE n h bc bs q2 v3 v4 → ∀ (H : Heap) (locs : List Loc) (ls : Array Slot) (cells slots : Nat), cells + bc ≤ C ∧ slots + bs ≤ S → lv_has ls 6 [(0, .ref o), (2, va_rf q2), (3, .int v3), (4, .int v4)] → zc_H D cA P h s H locs → W p l e (zc_Ro 11 C S) s m args below meth c H locs cells slots (vx_MQ below (zc_Q D cA P (fun v h' => ∃ z : Int32, v = some (.int z) ∧ Q z h')) (zc_X D cA P XE) args s C S P) (F0 m 36 ls []) := by
  have hx := X.1
  have hb := X.2.1
  have hown := X.2.2.2.1
  have hts := X.2.2.2.2.1
  intro n
  induction n with
  | zero =>
    intro h bc bs q2 v3 v4 hF
    exact False.elim hF
  | succ n ih =>
    intro h bc bs q2 v3 v4 hF
    intro H locs ls cells slots hB hl hH
    unfold fc_X5_dies_36 at hF
    refine lv_iload hx hb dX5_dies_36 (lv_at hl 3 rfl) ?_
    refine lv_aload_n hx hb dX5_dies_38 rfl (lv_at hl 0 rfl) ?_
    obtain ⟨hc, hF⟩ := hF
    refine zc_getf X hH hc 1 201 ("ChurchyardBook$Book", "graves", "Ljava/util/ArrayList;", true) (by decide +kernel) (v := va_rf (zr h 201 o)) rfl q190 (Or.inl rfl) dX5_dies_39 ?_
    obtain ⟨b1, eb1, hF⟩ := hF
    refine zq_st (st2 := [.ref b1, .int v4]) (by rw [eb1]; first | done | rfl) ?_
    obtain ⟨hc, hF⟩ := hF
    refine zc_call (c1 := 0) (s1 := 0) (rest := [.int v4]) hH hB (Nat.zero_le _) (Nat.zero_le _) (fun hf => zc_rV X hH hc (by decide) rfl (As := []) (wc_J2_size X.2.2.2.2.2.2.2.1 hF) (lw_V q349 q350 q351 q94 q352) ⟨rfl, by decide, by decide, rfl⟩ ⟨Nat.le_of_ble_eq_true rfl, Nat.le_of_ble_eq_true rfl, Nat.le_of_ble_eq_true rfl⟩ rfl hl.1 (st0 := [.ref b1, .int v4]) rfl (Nat.le_of_ble_eq_true rfl) dX5_dies_42 hf) (fun E9 ce9 q9 h9 H locs hx9 => False.elim hx9) (fun v9 h9 H locs hv9 hH hB => ?_)
    obtain ⟨z2, rfl, hF, rfl⟩ := hv9
    refine lv_icmp_ge (tgt := 126) hx hb dX5_dies_45 (by decide) (fun cd => ?_) (fun cd => ?_)
    · have hF := hF.1 cd
      refine lv_iload_n hx hb dX5_dies_126 rfl (lv_at hl 2 rfl) ?_
      exact zc_iret X hH hB rfl rfl ⟨_, rfl, hF⟩ dX5_dies_127
    · have hF := hF.2 cd
      refine lv_aload_n hx hb dX5_dies_48 rfl (lv_at hl 0 rfl) ?_
      obtain ⟨hc, hF⟩ := hF
      refine zc_getf X hH hc 1 201 ("ChurchyardBook$Book", "graves", "Ljava/util/ArrayList;", true) (by decide +kernel) (v := va_rf (zr h 201 o)) rfl q190 (Or.inl rfl) dX5_dies_49 ?_
      refine lv_iload hx hb dX5_dies_52 (lv_at hl 3 rfl) ?_
      refine zq_st (st2 := [.int v4, .ref b1]) (by rw [eb1]; first | done | rfl) ?_
      obtain ⟨hc, hF⟩ := hF
      refine zc_call (c1 := 0) (s1 := 0) (rest := []) hH hB (Nat.zero_le _) (Nat.zero_le _) (fun hf => zc_rV X hH hc (by decide) rfl (As := [.int v4]) (wc_J2_get X.2.2.2.2.2.2.2.1 hF) (lw_V q475 q476 q477 q94 q478) ⟨rfl, by decide, by decide, rfl⟩ ⟨Nat.le_of_ble_eq_true rfl, Nat.le_of_ble_eq_true rfl, Nat.le_of_ble_eq_true rfl⟩ rfl hl.1 (st0 := [.int v4, .ref b1]) rfl (Nat.le_of_ble_eq_true rfl) dX5_dies_54 hf) (fun E9 ce9 q9 h9 H locs hx9 => False.elim hx9) (fun v9 h9 H locs hv9 hH hB => ?_)
      obtain ⟨r3, rfl, hF, rfl⟩ := hv9
      obtain ⟨hR, hF⟩ := hF
      refine zc_castY X hH (r := r3) [8, 9, 10, 11, 12, 13] "ChurchyardBook$Grave" hR (by decide) (by decide +kernel) q531 dX5_dies_57 ?_
      refine zq_astore (r := r3) (lv' := [(5, va_rf r3), (0, .ref o), (2, va_rf q2), (3, .int v3), (4, .int v4)]) hx hb rfl dX5_dies_60 hl (by decide) rfl (fun ls hl => ?_)
      refine zq_aload hx hb dX5_dies_62 (lv_at hl 0 rfl) ?_
      obtain ⟨b4, eb4, hF⟩ := hF
      refine zq_st (st2 := [.ref b4]) (by rw [eb4]; first | done | rfl) ?_
      obtain ⟨hc, hF⟩ := hF
      refine zc_getf X hH hc 6 606 ("ChurchyardBook$Grave", "state", "I", false) (by decide +kernel) (v := .int (zi h 606 b4)) rfl q672 (Or.inl rfl) dX5_dies_64 ?_
      refine lv_iconst (v := 1) hx hb dX5_dies_67 (by decide) ?_
      refine lv_icmp_ne (tgt := 93) hx hb dX5_dies_68 (by decide) (fun cd => ?_) (fun cd => ?_)
      · have hF := hF.1 cd
        exact wc_X5_dies_93 X hN hT ih h bc bs q2 v3 v4 r3 hF _ _ _ _ _ hB (lv_sub hl [1, 2, 3, 4, 0] rfl) hH
      · have hF := hF.2 cd
        refine zq_aload hx hb dX5_dies_71 (lv_at hl 0 rfl) ?_
        refine zq_st (st2 := [.ref b4]) (by rw [eb4]; first | done | rfl) ?_
        obtain ⟨hc, hF⟩ := hF
        refine zc_getf X hH hc 7 607 ("ChurchyardBook$Grave", "holder", "LChurchyardBook$Person;", false) (by decide +kernel) (v := va_rf (zr h 607 b4)) rfl q675 (Or.inl rfl) dX5_dies_73 ?_
        refine zq_aload_n hx hb dX5_dies_76 rfl (lv_at hl 2 rfl) ?_
        refine lv_acmp_ne (rx := (zr h 607 b4)) (ry := q2) (tgt := 93) hx hb dX5_dies_77 (by decide) (fun cd => ?_) (fun cd => ?_)
        · have hF := hF.1 cd
          exact wc_X5_dies_93 X hN hT ih h bc bs q2 v3 v4 r3 hF _ _ _ _ _ hB (lv_sub hl [1, 2, 3, 4, 0] rfl) hH
        · have hF := hF.2 cd
          refine lv_aload_n hx hb dX5_dies_80 rfl (lv_at hl 1 rfl) ?_
          refine zq_aload hx hb dX5_dies_81 (lv_at hl 0 rfl) ?_
          refine zq_aload_n hx hb dX5_dies_83 rfl (lv_at hl 2 rfl) ?_
          obtain ⟨hc, hF⟩ := hF
          obtain ⟨c5, s6, hc1, hs1, hF⟩ := hF
          refine zc_call (c1 := c5) (s1 := s6) (rest := []) hH hB hc1 hs1 (fun hf => zc_rV X hH hc (by decide) rfl (As := [va_rf r3, va_rf q2]) (wc_X5_offers X.2.2.2.2.2.2.2.1 hF) (lw_V q1014 q1016 qs11 q91 q1017) ⟨rfl, by decide, by decide, rfl⟩ ⟨Nat.le_of_ble_eq_true rfl, Nat.le_of_ble_eq_true rfl, Nat.le_of_ble_eq_true rfl⟩ rfl hl.1 (st0 := [va_rf q2, va_rf r3, .ref o]) rfl (Nat.le_of_ble_eq_true rfl) dX5_dies_84 hf) (fun E9 ce9 q9 h9 H locs hx9 => False.elim hx9) (fun v9 h7 H locs hv9 hH hB => ?_)
          obtain ⟨rfl, hF⟩ := hv9
          obtain ⟨x8, ex8⟩ : ∃ z : Int32, z = v3 + 1 := ⟨_, rfl⟩
          have hF := hF x8 ex8
          refine lv_iinc (v := x8) (lv' := [(3, .int x8), (5, va_rf r3), (0, .ref o), (2, va_rf q2), (4, .int v4)]) hx hb dX5_dies_87 hl (k := 3) rfl (by rw [ex8]; rfl) (by decide) (by cases q2 <;> rfl) (fun ls hl => ?_)
          refine lv_goto (tgt := 120) hx hb dX5_dies_90 (by decide) ?_
          exact wc_X5_dies_120 X hN hT ih h7 (bc - c5) (bs - s6) q2 x8 v4 hF _ _ _ _ _ hB (lv_sub hl [2, 3, 0, 4] rfl) hH
set_option maxHeartbeats 4000000 in
set_option maxRecDepth 100000 in
theorem wc_X5_dies_22 {p : Program} {l : Launch} {e : Env} {s : State} {m : MethodId} {args : Array Value} {below : List Frame} {meth : Method} {c : Code} {D : va_G} {cA : Nat → ClassId} {P : Nat → Prop} {G : Nat × Nat × Nat} {C S : Nat} {o : Nat} {Q : Int32 → ZH → Prop} {XE : String → Nat → ZH → Prop} (X : zc_Cx p l s m args meth c cX5_dies 6 (some .int) "ChurchyardBook$Book" D cA P G) (hN : meth.name = "dies") (hT : c.exceptionTable.toList = tableOf []) :
    ∀ (h : ZH) (bc bs : Nat) (q2 : Option Nat) (t0 : Int32), fc_X5_dies_22 G o Q XE h bc bs q2 t0 → ∀ (H : Heap) (locs : List Loc) (ls : Array Slot) (cells slots : Nat), cells + bc ≤ C ∧ slots + bs ≤ S → lv_has ls 6 [(0, .ref o), (2, va_rf q2)] → zc_H D cA P h s H locs → W p l e (zc_Ro 11 C S) s m args below meth c H locs cells slots (vx_MQ below (zc_Q D cA P (fun v h' => ∃ z : Int32, v = some (.int z) ∧ Q z h')) (zc_X D cA P XE) args s C S P) (F0 m 22 ls [.int t0]) := by
  have hx := X.1
  have hb := X.2.1
  have hown := X.2.2.2.1
  have hts := X.2.2.2.2.1
  intro h bc bs q2 t0 hF
  intro H locs ls cells slots hB hl hH
  unfold fc_X5_dies_22 at hF
  refine lv_iconst (v := (-1)) hx hb dX5_dies_22 (by decide) ?_
  obtain ⟨c1, s2, hc1, hs1, hF⟩ := hF
  refine zc_call (c1 := c1) (s1 := s2) (rest := []) hH hB hc1 hs1 (fun hf => zc_rSN X hH (As := [.int t0, .int (-1)]) (host := "ChurchyardBook") (wc_X1_need X.2.2.2.2.2.2.2.1 hF) (lw_meth q265) (by decide +kernel) q87 q264 ⟨by decide, by decide, rfl⟩ ⟨Nat.le_of_ble_eq_true rfl, Nat.le_of_ble_eq_true rfl, Nat.le_of_ble_eq_true rfl⟩ rfl hl.1 (st0 := [.int (-1), .int t0]) rfl (Nat.le_of_ble_eq_true rfl) dX5_dies_23 hf) (fun E9 ce9 q3 h4 H locs hx9 hH hB hce hcv hcl => ?_) (fun v9 h9 H locs hv9 hH hB => ?_)
  · exact zc_out X hH hB (by rw [hT]; intro x hx9; cases hx9) hce hcv hcl hx9
  obtain ⟨rfl, hF, rfl⟩ := hv9
  refine zq_aload_n hx hb dX5_dies_26 rfl (lv_at hl 1 rfl) ?_
  refine lv_iconst (v := 1) hx hb dX5_dies_27 (by decide) ?_
  obtain ⟨b5, eb5, hF⟩ := hF
  refine zq_st (st2 := [.int 1, .ref b5]) (by rw [eb5]; first | done | rfl) ?_
  obtain ⟨hc, hF⟩ := hF
  refine zc_puti X hH hc 2 702 ("ChurchyardBook$Person", "isDead", "Z", false) (by decide +kernel) rfl q868 (Or.inl rfl) (ty := .boolean) (by decide +kernel) rfl rfl (Or.inl rfl) dX5_dies_28 (fun h6 H locs eh6 hH => ?_)
  have hF := hF h6 eh6
  refine lv_iconst (v := 0) hx hb dX5_dies_31 (by decide) ?_
  refine lv_istore_n (lv' := [(3, .int 0), (0, .ref o), (2, va_rf q2)]) hx hb dX5_dies_32 rfl hl (by decide) (by cases q2 <;> rfl) (fun ls hl => ?_)
  refine lv_iconst (v := 0) hx hb dX5_dies_33 (by decide) ?_
  refine lv_istore (lv' := [(4, .int 0), (3, .int 0), (0, .ref o), (2, va_rf q2)]) hx hb dX5_dies_34 hl (by decide) rfl (fun ls hl => ?_)
  obtain ⟨n9, hF⟩ := hF
  exact wc_X5_dies_36 X hN hT n9 h6 (bc - c1) (bs - s2) q2 0 0 hF _ _ _ _ _ hB (lv_sub hl [2, 3, 1, 0] rfl) hH
set_option maxHeartbeats 4000000 in
set_option maxRecDepth 100000 in
theorem wc_X5_dies_21 {p : Program} {l : Launch} {e : Env} {s : State} {m : MethodId} {args : Array Value} {below : List Frame} {meth : Method} {c : Code} {D : va_G} {cA : Nat → ClassId} {P : Nat → Prop} {G : Nat × Nat × Nat} {C S : Nat} {o : Nat} {Q : Int32 → ZH → Prop} {XE : String → Nat → ZH → Prop} (X : zc_Cx p l s m args meth c cX5_dies 6 (some .int) "ChurchyardBook$Book" D cA P G) (hN : meth.name = "dies") (hT : c.exceptionTable.toList = tableOf []) :
    ∀ (h : ZH) (bc bs : Nat) (q2 : Option Nat), fc_X5_dies_21 G o Q XE h bc bs q2 → ∀ (H : Heap) (locs : List Loc) (ls : Array Slot) (cells slots : Nat), cells + bc ≤ C ∧ slots + bs ≤ S → lv_has ls 6 [(0, .ref o), (2, va_rf q2)] → zc_H D cA P h s H locs → W p l e (zc_Ro 11 C S) s m args below meth c H locs cells slots (vx_MQ below (zc_Q D cA P (fun v h' => ∃ z : Int32, v = some (.int z) ∧ Q z h')) (zc_X D cA P XE) args s C S P) (F0 m 21 ls []) := by
  have hx := X.1
  have hb := X.2.1
  have hown := X.2.2.2.1
  have hts := X.2.2.2.2.1
  intro h bc bs q2 hF
  intro H locs ls cells slots hB hl hH
  unfold fc_X5_dies_21 at hF
  refine lv_iconst (v := 0) hx hb dX5_dies_21 (by decide) ?_
  exact wc_X5_dies_22 X hN hT h bc bs q2 0 hF _ _ _ _ _ hB (lv_sub hl [0, 1] rfl) hH
set_option maxHeartbeats 4000000 in
set_option maxRecDepth 100000 in
theorem wc_X5_dies {l : Launch} {D : va_G} {cA : Nat → ClassId} {P : Nat → Prop} {G : Nat × Nat × Nat} {o : Nat} {Q : Int32 → ZH → Prop} {XE : String → Nat → ZH → Prop} {h : ZH} {C S : Nat} {v1 : Int32} (hl9 : l.stackTraces = false) (hF : fc_X5_dies G o Q XE h C S v1) :
    zc_M l yX5_dies (ws_ yX5_dies cX5_dies 6 (some .int)) 11 D cA P G [.ref o, .int v1] h C S (fun v h' => ∃ z : Int32, v = some (.int z) ∧ Q z h') XE := by
  refine zc_ofF hl9 rfl (by decide +kernel) (Nat.le_of_ble_eq_true rfl) ?_
  intro p e s m args below meth c H locs ls X hN hT hH hl
  have hx := X.1
  have hb := X.2.1
  have hown := X.2.2.2.1
  have hts := X.2.2.2.2.1
  have hl : lv_has ls 6 [(0, .ref o), (1, .int v1)] := hl
  have hB : 0 + C ≤ C ∧ 0 + S ≤ S := ⟨by omega, by omega⟩
  unfold fc_X5_dies at hF
  refine lv_aload_n hx hb dX5_dies_0 rfl (lv_at hl 0 rfl) ?_
  refine lv_iload_n hx hb dX5_dies_1 rfl (lv_at hl 1 rfl) ?_
  obtain ⟨hc, hF⟩ := hF
  refine zc_call (c1 := 0) (s1 := 0) (rest := []) hH hB (Nat.zero_le _) (Nat.zero_le _) (fun hf => zc_rV X hH hc (by decide) rfl (As := [.int v1]) (wc_X5_person X.2.2.2.2.2.2.2.1 hF) (lw_V q937 q938 q939 q91 q940) ⟨rfl, by decide, by decide, rfl⟩ ⟨Nat.le_of_ble_eq_true rfl, Nat.le_of_ble_eq_true rfl, Nat.le_of_ble_eq_true rfl⟩ rfl hl.1 (st0 := [.int v1, .ref o]) rfl (Nat.le_of_ble_eq_true rfl) dX5_dies_2 hf) (fun E9 ce9 q9 h9 H locs hx9 => False.elim hx9) (fun v9 h9 H locs hv9 hH hB => ?_)
  obtain ⟨r1, rfl, hF, rfl⟩ := hv9
  refine zq_astore_n (r := r1) (lv' := [(2, va_rf r1), (0, .ref o), (1, .int v1)]) hx hb rfl dX5_dies_5 rfl hl (by decide) rfl (fun ls hl => ?_)
  refine zq_aload_n hx hb dX5_dies_6 rfl (lv_at hl 0 rfl) ?_
  refine zq_ifnull (tgt := 21) hx hb dX5_dies_7 (by decide) (fun cd => ?_) (fun b2 eb2 => ?_)
  · have hF := hF.1 cd
    exact wc_X5_dies_21 X hN hT h C S r1 hF _ _ _ _ _ hB (lv_sub hl [1, 0] rfl) hH
  · have hF := hF.2 b2 eb2
    refine zq_aload_n hx hb dX5_dies_10 rfl (lv_at hl 0 rfl) ?_
    refine zq_st (st2 := [.ref b2]) (by rw [eb2]; first | done | rfl) ?_
    obtain ⟨hc, hF⟩ := hF
    refine zc_getf X hH hc 2 702 ("ChurchyardBook$Person", "isDead", "Z", false) (by decide +kernel) (v := .int (zi h 702 b2)) rfl q868 (Or.inl rfl) dX5_dies_11 ?_
    refine lv_if_ne (tgt := 21) hx hb dX5_dies_14 (by decide) (fun cd => ?_) (fun cd => ?_)
    · have hF := hF.1 cd
      exact wc_X5_dies_21 X hN hT h C S r1 hF _ _ _ _ _ hB (lv_sub hl [1, 0] rfl) hH
    · have hF := hF.2 cd
      refine lv_iconst (v := 1) hx hb dX5_dies_17 (by decide) ?_
      refine lv_goto (tgt := 22) hx hb dX5_dies_18 (by decide) ?_
      exact wc_X5_dies_22 X hN hT h C S r1 1 hF _ _ _ _ _ hB (lv_sub hl [1, 0] rfl) hH
set_option maxHeartbeats 4000000 in
set_option maxRecDepth 100000 in
theorem wc_X5_offered_39 {p : Program} {l : Launch} {e : Env} {s : State} {m : MethodId} {args : Array Value} {below : List Frame} {meth : Method} {c : Code} {D : va_G} {cA : Nat → ClassId} {P : Nat → Prop} {G : Nat × Nat × Nat} {C S : Nat} {o : Nat} {Q : Option Nat → Prop} {XE : String → Nat → ZH → Prop} {h0 : ZH} (X : zc_Cx p l s m args meth c cX5_offered 3 (some (.object "ChurchyardBook$Grave")) "ChurchyardBook$Book" D cA P G) (hN : meth.name = "offered") (hT : c.exceptionTable.toList = tableOf []) :
    ∀ (h : ZH) (bc bs : Nat) (q2 : Option Nat) (t0 : Int32), fc_X5_offered_39 G o Q XE h bc bs q2 t0 → ∀ (H : Heap) (locs : List Loc) (ls : Array Slot) (cells slots : Nat), cells + bc ≤ C ∧ slots + bs ≤ S → h0 = h → lv_has ls 3 [(0, .ref o), (2, va_rf q2)] → zc_H D cA P h s H locs → W p l e (zc_Ro 5 C S) s m args below meth c H locs cells slots (vx_MQ below (zc_Q D cA P (fun v h' => ∃ z : Option Nat, v = some (va_rf z) ∧ Q z ∧ h0 = h')) (zc_X D cA P XE) args s C S P) (F0 m 39 ls [.int t0]) := by
  have hx := X.1
  have hb := X.2.1
  have hown := X.2.2.2.1
  have hts := X.2.2.2.2.1
  intro h bc bs q2 t0 hF
  intro H locs ls cells slots hB eh hl hH
  unfold fc_X5_offered_39 at hF
  refine lv_bipush (v := (-2)) hx hb dX5_offered_39 (by decide) ?_
  obtain ⟨c1, s2, hc1, hs1, hF⟩ := hF
  refine zc_call (c1 := c1) (s1 := s2) (rest := []) hH hB hc1 hs1 (fun hf => zc_rSN X hH (As := [.int t0, .int (-2)]) (host := "ChurchyardBook") (wc_X1_need X.2.2.2.2.2.2.2.1 hF) (lw_meth q265) (by decide +kernel) q87 q264 ⟨by decide, by decide, rfl⟩ ⟨Nat.le_of_ble_eq_true rfl, Nat.le_of_ble_eq_true rfl, Nat.le_of_ble_eq_true rfl⟩ rfl hl.1 (st0 := [.int (-2), .int t0]) rfl (Nat.le_of_ble_eq_true rfl) dX5_offered_41 hf) (fun E9 ce9 q3 h4 H locs hx9 hH hB hce hcv hcl => ?_) (fun v9 h9 H locs hv9 hH hB => ?_)
  · exact zc_out X hH hB (by rw [hT]; intro x hx9; cases hx9) hce hcv hcl hx9
  obtain ⟨rfl, hF, rfl⟩ := hv9
  refine zq_aload_n hx hb dX5_offered_44 rfl (lv_at hl 1 rfl) ?_
  exact zc_aret X hH hB rfl (by first | exact Or.inl ⟨_, rfl⟩ | exact Or.inr ⟨_, rfl⟩) (r := q2) rfl ⟨_, rfl, hF, eh⟩ dX5_offered_45
set_option maxHeartbeats 4000000 in
set_option maxRecDepth 100000 in
theorem wc_X5_offered_38 {p : Program} {l : Launch} {e : Env} {s : State} {m : MethodId} {args : Array Value} {below : List Frame} {meth : Method} {c : Code} {D : va_G} {cA : Nat → ClassId} {P : Nat → Prop} {G : Nat × Nat × Nat} {C S : Nat} {o : Nat} {Q : Option Nat → Prop} {XE : String → Nat → ZH → Prop} {h0 : ZH} (X : zc_Cx p l s m args meth c cX5_offered 3 (some (.object "ChurchyardBook$Grave")) "ChurchyardBook$Book" D cA P G) (hN : meth.name = "offered") (hT : c.exceptionTable.toList = tableOf []) :
    ∀ (h : ZH) (bc bs : Nat) (q2 : Option Nat), fc_X5_offered_38 G o Q XE h bc bs q2 → ∀ (H : Heap) (locs : List Loc) (ls : Array Slot) (cells slots : Nat), cells + bc ≤ C ∧ slots + bs ≤ S → h0 = h → lv_has ls 3 [(0, .ref o), (2, va_rf q2)] → zc_H D cA P h s H locs → W p l e (zc_Ro 5 C S) s m args below meth c H locs cells slots (vx_MQ below (zc_Q D cA P (fun v h' => ∃ z : Option Nat, v = some (va_rf z) ∧ Q z ∧ h0 = h')) (zc_X D cA P XE) args s C S P) (F0 m 38 ls []) := by
  have hx := X.1
  have hb := X.2.1
  have hown := X.2.2.2.1
  have hts := X.2.2.2.2.1
  intro h bc bs q2 hF
  intro H locs ls cells slots hB eh hl hH
  unfold fc_X5_offered_38 at hF
  refine lv_iconst (v := 0) hx hb dX5_offered_38 (by decide) ?_
  exact wc_X5_offered_39 X hN hT h bc bs q2 0 hF _ _ _ _ _ hB eh (lv_sub hl [0, 1] rfl) hH
set_option maxHeartbeats 4000000 in
set_option maxRecDepth 100000 in
theorem wc_X5_offered_15 {p : Program} {l : Launch} {e : Env} {s : State} {m : MethodId} {args : Array Value} {below : List Frame} {meth : Method} {c : Code} {D : va_G} {cA : Nat → ClassId} {P : Nat → Prop} {G : Nat × Nat × Nat} {C S : Nat} {o : Nat} {Q : Option Nat → Prop} {XE : String → Nat → ZH → Prop} {h0 : ZH} (X : zc_Cx p l s m args meth c cX5_offered 3 (some (.object "ChurchyardBook$Grave")) "ChurchyardBook$Book" D cA P G) (hN : meth.name = "offered") (hT : c.exceptionTable.toList = tableOf []) :
    ∀ (h : ZH) (bc bs : Nat) (q2 : Option Nat) (t0 : Int32), fc_X5_offered_15 G o Q XE h bc bs q2 t0 → ∀ (H : Heap) (locs : List Loc) (ls : Array Slot) (cells slots : Nat), cells + bc ≤ C ∧ slots + bs ≤ S → h0 = h → lv_has ls 3 [(0, .ref o), (2, va_rf q2)] → zc_H D cA P h s H locs → W p l e (zc_Ro 5 C S) s m args below meth c H locs cells slots (vx_MQ below (zc_Q D cA P (fun v h' => ∃ z : Option Nat, v = some (va_rf z) ∧ Q z ∧ h0 = h')) (zc_X D cA P XE) args s C S P) (F0 m 15 ls [.int t0]) := by
  have hx := X.1
  have hb := X.2.1
  have hown := X.2.2.2.1
  have hts := X.2.2.2.2.1
  intro h bc bs q2 t0 hF
  intro H locs ls cells slots hB eh hl hH
  unfold fc_X5_offered_15 at hF
  refine lv_iconst (v := (-1)) hx hb dX5_offered_15 (by decide) ?_
  obtain ⟨c1, s2, hc1, hs1, hF⟩ := hF
  refine zc_call (c1 := c1) (s1 := s2) (rest := []) hH hB hc1 hs1 (fun hf => zc_rSN X hH (As := [.int t0, .int (-1)]) (host := "ChurchyardBook") (wc_X1_need X.2.2.2.2.2.2.2.1 hF) (lw_meth q265) (by decide +kernel) q87 q264 ⟨by decide, by decide, rfl⟩ ⟨Nat.le_of_ble_eq_true rfl, Nat.le_of_ble_eq_true rfl, Nat.le_of_ble_eq_true rfl⟩ rfl hl.1 (st0 := [.int (-1), .int t0]) rfl (Nat.le_of_ble_eq_true rfl) dX5_offered_16 hf) (fun E9 ce9 q3 h4 H locs hx9 hH hB hce hcv hcl => ?_) (fun v9 h9 H locs hv9 hH hB => ?_)
  · exact zc_out X hH hB (by rw [hT]; intro x hx9; cases hx9) hce hcv hcl hx9
  obtain ⟨rfl, hF, rfl⟩ := hv9
  refine zq_aload_n hx hb dX5_offered_19 rfl (lv_at hl 1 rfl) ?_
  obtain ⟨b5, eb5, hF⟩ := hF
  refine zq_st (st2 := [.ref b5]) (by rw [eb5]; first | done | rfl) ?_
  obtain ⟨hc, hF⟩ := hF
  refine zc_getf X hH hc 6 606 ("ChurchyardBook$Grave", "state", "I", false) (by decide +kernel) (v := .int (zi h 606 b5)) rfl q672 (Or.inl rfl) dX5_offered_20 ?_
  refine lv_iconst (v := 2) hx hb dX5_offered_23 (by decide) ?_
  refine lv_icmp_ne (tgt := 38) hx hb dX5_offered_24 (by decide) (fun cd => ?_) (fun cd => ?_)
  · have hF := hF.1 cd
    exact wc_X5_offered_38 X hN hT h (bc - c1) (bs - s2) q2 hF _ _ _ _ _ hB eh (lv_sub hl [0, 1] rfl) hH
  · have hF := hF.2 cd
    refine zq_aload_n hx hb dX5_offered_27 rfl (lv_at hl 1 rfl) ?_
    refine zq_st (st2 := [.ref b5]) (by rw [eb5]; first | done | rfl) ?_
    obtain ⟨hc, hF⟩ := hF
    refine zc_getf X hH hc 9 609 ("ChurchyardBook$Grave", "offered", "LChurchyardBook$Person;", false) (by decide +kernel) (v := va_rf (zr h 609 b5)) rfl q681 (Or.inl rfl) dX5_offered_28 ?_
    refine zq_ifnull (tgt := 38) hx hb dX5_offered_31 (by decide) (fun cd => ?_) (fun b6 eb6 => ?_)
    · have hF := hF.1 cd
      exact wc_X5_offered_38 X hN hT h (bc - c1) (bs - s2) q2 hF _ _ _ _ _ hB eh (lv_sub hl [0, 1] rfl) hH
    · have hF := hF.2 b6 eb6
      refine lv_iconst (v := 1) hx hb dX5_offered_34 (by decide) ?_
      refine lv_goto (tgt := 39) hx hb dX5_offered_35 (by decide) ?_
      exact wc_X5_offered_39 X hN hT h (bc - c1) (bs - s2) q2 1 hF _ _ _ _ _ hB eh (lv_sub hl [0, 1] rfl) hH
set_option maxHeartbeats 4000000 in
set_option maxRecDepth 100000 in
theorem wc_X5_offered {l : Launch} {D : va_G} {cA : Nat → ClassId} {P : Nat → Prop} {G : Nat × Nat × Nat} {o : Nat} {Q : Option Nat → Prop} {XE : String → Nat → ZH → Prop} {h : ZH} {C S : Nat} {v1 : Int32} (hl9 : l.stackTraces = false) (hF : fc_X5_offered G o Q XE h C S v1) :
    zc_M l yX5_offered (ws_ yX5_offered cX5_offered 3 (some (.object "ChurchyardBook$Grave"))) 5 D cA P G [.ref o, .int v1] h C S (fun v h' => ∃ z : Option Nat, v = some (va_rf z) ∧ Q z ∧ h = h') XE := by
  refine zc_ofF hl9 rfl (by decide +kernel) (Nat.le_of_ble_eq_true rfl) ?_
  intro p e s m args below meth c H locs ls X hN hT hH hl
  have hx := X.1
  have hb := X.2.1
  have hown := X.2.2.2.1
  have hts := X.2.2.2.2.1
  have hl : lv_has ls 3 [(0, .ref o), (1, .int v1)] := hl
  have hB : 0 + C ≤ C ∧ 0 + S ≤ S := ⟨by omega, by omega⟩
  have eh : h = h := rfl
  unfold fc_X5_offered at hF
  refine lv_aload_n hx hb dX5_offered_0 rfl (lv_at hl 0 rfl) ?_
  refine lv_iload_n hx hb dX5_offered_1 rfl (lv_at hl 1 rfl) ?_
  obtain ⟨hc, hF⟩ := hF
  refine zc_call (c1 := 0) (s1 := 0) (rest := []) hH hB (Nat.zero_le _) (Nat.zero_le _) (fun hf => zc_rV X hH hc (by decide) rfl (As := [.int v1]) (wc_X5_grave X.2.2.2.2.2.2.2.1 hF) (lw_V q953 q954 q955 q91 q956) ⟨rfl, by decide, by decide, rfl⟩ ⟨Nat.le_of_ble_eq_true rfl, Nat.le_of_ble_eq_true rfl, Nat.le_of_ble_eq_true rfl⟩ rfl hl.1 (st0 := [.int v1, .ref o]) rfl (Nat.le_of_ble_eq_true rfl) dX5_offered_2 hf) (fun E9 ce9 q9 h9 H locs hx9 => False.elim hx9) (fun v9 h9 H locs hv9 hH hB => ?_)
  obtain ⟨r1, rfl, hF, rfl⟩ := hv9
  refine zq_astore_n (r := r1) (lv' := [(2, va_rf r1), (0, .ref o), (1, .int v1)]) hx hb rfl dX5_offered_5 rfl hl (by decide) rfl (fun ls hl => ?_)
  refine zq_aload_n hx hb dX5_offered_6 rfl (lv_at hl 0 rfl) ?_
  refine zq_ifnull (tgt := 14) hx hb dX5_offered_7 (by decide) (fun cd => ?_) (fun b2 eb2 => ?_)
  · have hF := hF.1 cd
    refine lv_iconst (v := 0) hx hb dX5_offered_14 (by decide) ?_
    exact wc_X5_offered_15 X hN hT h C S r1 0 hF _ _ _ _ _ hB eh (lv_sub hl [1, 0] rfl) hH
  · have hF := hF.2 b2 eb2
    refine lv_iconst (v := 1) hx hb dX5_offered_10 (by decide) ?_
    refine lv_goto (tgt := 15) hx hb dX5_offered_11 (by decide) ?_
    exact wc_X5_offered_15 X hN hT h C S r1 1 hF _ _ _ _ _ hB eh (lv_sub hl [1, 0] rfl) hH
set_option maxHeartbeats 4000000 in
set_option maxRecDepth 100000 in
theorem wc_X5_takes {l : Launch} {D : va_G} {cA : Nat → ClassId} {P : Nat → Prop} {G : Nat × Nat × Nat} {o : Nat} {Q : Int32 → ZH → Prop} {XE : String → Nat → ZH → Prop} {h : ZH} {C S : Nat} {v1 : Int32} (hl9 : l.stackTraces = false) (hF : fc_X5_takes G o Q XE h C S v1) :
    zc_M l yX5_takes (ws_ yX5_takes cX5_takes 3 (some .int)) 6 D cA P G [.ref o, .int v1] h C S (fun v h' => ∃ z : Int32, v = some (.int z) ∧ Q z h') XE := by
  refine zc_ofF hl9 rfl (by decide +kernel) (Nat.le_of_ble_eq_true rfl) ?_
  intro p e s m args below meth c H locs ls X hN hT hH hl
  have hx := X.1
  have hb := X.2.1
  have hown := X.2.2.2.1
  have hts := X.2.2.2.2.1
  have hl : lv_has ls 3 [(0, .ref o), (1, .int v1)] := hl
  have hB : 0 + C ≤ C ∧ 0 + S ≤ S := ⟨by omega, by omega⟩
  unfold fc_X5_takes at hF
  refine lv_aload_n hx hb dX5_takes_0 rfl (lv_at hl 0 rfl) ?_
  refine lv_iload_n hx hb dX5_takes_1 rfl (lv_at hl 1 rfl) ?_
  obtain ⟨hc, hF⟩ := hF
  obtain ⟨c1, s2, hc1, hs1, hF⟩ := hF
  refine zc_call (c1 := c1) (s1 := s2) (rest := []) hH hB hc1 hs1 (fun hf => zc_rV X hH hc (by decide) rfl (As := [.int v1]) (wc_X5_offered X.2.2.2.2.2.2.2.1 hF) (lw_V q1095 q1097 qs15 q91 q1098) ⟨rfl, by decide, by decide, rfl⟩ ⟨Nat.le_of_ble_eq_true rfl, Nat.le_of_ble_eq_true rfl, Nat.le_of_ble_eq_true rfl⟩ rfl hl.1 (st0 := [.int v1, .ref o]) rfl (Nat.le_of_ble_eq_true rfl) dX5_takes_2 hf) (fun E9 ce9 q4 h5 H locs hx9 hH hB hce hcv hcl => ?_) (fun v9 h9 H locs hv9 hH hB => ?_)
  · exact zc_out X hH hB (by rw [hT]; intro x hx9; cases hx9) hce hcv hcl hx9
  obtain ⟨r3, rfl, hF, rfl⟩ := hv9
  refine zq_astore_n (r := r3) (lv' := [(2, va_rf r3), (0, .ref o), (1, .int v1)]) hx hb rfl dX5_takes_5 rfl hl (by decide) rfl (fun ls hl => ?_)
  refine zq_aload_n hx hb dX5_takes_6 rfl (lv_at hl 0 rfl) ?_
  refine zq_aload_n hx hb dX5_takes_7 rfl (lv_at hl 0 rfl) ?_
  obtain ⟨b6, eb6, hF⟩ := hF
  refine zq_st (st2 := [.ref b6, va_rf r3]) (by rw [eb6]; first | done | rfl) ?_
  obtain ⟨hc, hF⟩ := hF
  refine zc_getf X hH hc 9 609 ("ChurchyardBook$Grave", "offered", "LChurchyardBook$Person;", false) (by decide +kernel) (v := va_rf (zr h 609 b6)) rfl q681 (Or.inl rfl) dX5_takes_8 ?_
  refine zq_st (st2 := [va_rf (zr h 609 b6), .ref b6]) (by rw [eb6]; first | done | rfl) ?_
  refine zc_call (c1 := 0) (s1 := 0) (rest := []) hH hB (Nat.zero_le _) (Nat.zero_le _) (fun hf => rv_hold_1 X hH q969 hF ⟨Nat.le_of_ble_eq_true rfl, Nat.le_of_ble_eq_true rfl, Nat.le_of_ble_eq_true rfl⟩ hl.1 (st0 := [va_rf (zr h 609 b6), .ref b6]) rfl (Nat.le_of_ble_eq_true rfl) dX5_takes_11 hf) (fun E9 ce9 q9 h9 H locs hx9 => False.elim hx9) (fun v9 h7 H locs hv9 hH hB => ?_)
  obtain ⟨rfl, hF⟩ := hv9
  refine lv_iconst (v := 0) hx hb dX5_takes_14 (by decide) ?_
  exact zc_iret X hH hB rfl rfl ⟨_, rfl, hF⟩ dX5_takes_15
set_option maxHeartbeats 4000000 in
set_option maxRecDepth 100000 in
theorem wc_X5_refuses {l : Launch} {D : va_G} {cA : Nat → ClassId} {P : Nat → Prop} {G : Nat × Nat × Nat} {o : Nat} {Q : Int32 → ZH → Prop} {XE : String → Nat → ZH → Prop} {h : ZH} {C S : Nat} {v1 : Int32} (hl9 : l.stackTraces = false) (hF : fc_X5_refuses G o Q XE h C S v1) :
    zc_M l yX5_refuses (ws_ yX5_refuses cX5_refuses 2 (some .int)) 6 D cA P G [.ref o, .int v1] h C S (fun v h' => ∃ z : Int32, v = some (.int z) ∧ Q z h') XE := by
  refine zc_ofF hl9 rfl (by decide +kernel) (Nat.le_of_ble_eq_true rfl) ?_
  intro p e s m args below meth c H locs ls X hN hT hH hl
  have hx := X.1
  have hb := X.2.1
  have hown := X.2.2.2.1
  have hts := X.2.2.2.2.1
  have hl : lv_has ls 2 [(0, .ref o), (1, .int v1)] := hl
  have hB : 0 + C ≤ C ∧ 0 + S ≤ S := ⟨by omega, by omega⟩
  unfold fc_X5_refuses at hF
  refine lv_aload_n hx hb dX5_refuses_0 rfl (lv_at hl 0 rfl) ?_
  refine lv_iload_n hx hb dX5_refuses_1 rfl (lv_at hl 1 rfl) ?_
  obtain ⟨hc, hF⟩ := hF
  obtain ⟨c1, s2, hc1, hs1, hF⟩ := hF
  refine zc_call (c1 := c1) (s1 := s2) (rest := []) hH hB hc1 hs1 (fun hf => zc_rV X hH hc (by decide) rfl (As := [.int v1]) (wc_X5_offered X.2.2.2.2.2.2.2.1 hF) (lw_V q1095 q1097 qs15 q91 q1098) ⟨rfl, by decide, by decide, rfl⟩ ⟨Nat.le_of_ble_eq_true rfl, Nat.le_of_ble_eq_true rfl, Nat.le_of_ble_eq_true rfl⟩ rfl hl.1 (st0 := [.int v1, .ref o]) rfl (Nat.le_of_ble_eq_true rfl) dX5_refuses_2 hf) (fun E9 ce9 q4 h5 H locs hx9 hH hB hce hcv hcl => ?_) (fun v9 h9 H locs hv9 hH hB => ?_)
  · exact zc_out X hH hB (by rw [hT]; intro x hx9; cases hx9) hce hcv hcl hx9
  obtain ⟨r3, rfl, hF, rfl⟩ := hv9
  refine lv_aload_n hx hb dX5_refuses_5 rfl (lv_at hl 0 rfl) ?_
  obtain ⟨hc, hF⟩ := hF
  refine zc_getf X hH hc 3 203 ("ChurchyardBook$Book", "today", "I", false) (by decide +kernel) (v := .int (zi h 203 o)) rfl q194 (Or.inl rfl) dX5_refuses_6 ?_
  obtain ⟨b6, eb6, hF⟩ := hF
  refine zq_st (st2 := [.int (zi h 203 o), .ref b6]) (by rw [eb6]; first | done | rfl) ?_
  refine zc_call (c1 := 0) (s1 := 0) (rest := []) hH hB (Nat.zero_le _) (Nat.zero_le _) (fun hf => rv_passOn_5 X hH q1078 hF ⟨Nat.le_of_ble_eq_true rfl, Nat.le_of_ble_eq_true rfl, Nat.le_of_ble_eq_true rfl⟩ hl.1 (st0 := [.int (zi h 203 o), .ref b6]) rfl (Nat.le_of_ble_eq_true rfl) dX5_refuses_9 hf) (fun E9 ce9 q9 h9 H locs hx9 => False.elim hx9) (fun v9 h7 H locs hv9 hH hB => ?_)
  obtain ⟨rfl, hF⟩ := hv9
  refine lv_iconst (v := 0) hx hb dX5_refuses_12 (by decide) ?_
  exact zc_iret X hH hB rfl rfl ⟨_, rfl, hF⟩ dX5_refuses_13
set_option maxHeartbeats 4000000 in
set_option maxRecDepth 100000 in
theorem wc_X9_ground {l : Launch} {D : va_G} {cA : Nat → ClassId} {P : Nat → Prop} {G : Nat × Nat × Nat} {o : Nat} {Q : Int32 → Prop} {h : ZH} {C S : Nat} (hl9 : l.stackTraces = false) (hF : fc_X9_ground G o Q h) :
    zc_M l yX9_ground (ws_ yX9_ground cX9_ground 1 (some .int)) 1 D cA P G [.ref o] h C S (fun v h' => ∃ z : Int32, v = some (.int z) ∧ Q z ∧ h = h') zc_no := by
  refine zc_ofF hl9 rfl (by decide +kernel) (Nat.le_of_ble_eq_true rfl) ?_
  intro p e s m args below meth c H locs ls X hN hT hH hl
  have hx := X.1
  have hb := X.2.1
  have hown := X.2.2.2.1
  have hts := X.2.2.2.2.1
  have hl : lv_has ls 1 [(0, .ref o)] := hl
  have hB : 0 + 0 ≤ C ∧ 0 + 0 ≤ S := ⟨by omega, by omega⟩
  have eh : h = h := rfl
  unfold fc_X9_ground at hF
  refine lv_aload_n hx hb dX9_ground_0 rfl (lv_at hl 0 rfl) ?_
  obtain ⟨hc, hF⟩ := hF
  refine zc_getf X hH hc 5 605 ("ChurchyardBook$Grave", "ground", "I", true) (by decide +kernel) (v := .int (zi h 605 o)) rfl q670 (Or.inl rfl) dX9_ground_1 ?_
  exact zc_iret X hH hB rfl rfl ⟨_, rfl, hF, eh⟩ dX9_ground_4
set_option maxHeartbeats 1000000 in
theorem rv_ground_6 {p : Program} {l : Launch} {e : Env} {R : Room} {s : State} {m : MethodId} {args : Array Value} {below : List Frame} {meth : Method} {c : Code} {H : Heap} {locs : List Loc} {cells slots : Nat} {cc : ByteArray} {nL pc : Nat} {ret : Option FieldType} {own : String} {ls : Array Slot} {rest : List Value} {D : va_G} {cA : Nat → ClassId} {P : Nat → Prop} {G : Nat × Nat × Nat} {h : ZH} {C S a idx : Nat} {cnt : Nat} {Q : Int32 → Prop} (X : zc_Cx p l s m args meth c cc nL ret own D cA P G) (hH : zc_H D cA P h s H locs) (hlk : Cond.methodLink own idx ⟨"ChurchyardBook$Rests", "ground", "()I"⟩ ∈ lw_all) (hF : fv_ground_6 G a Q h) (hR : zc_rm R 1 11) (hsize : ls.size = nL) {st0 : List Value} (hst : st0 = ([] : List Value).reverse ++ .ref a :: rest) (hcat : (rest.map fun v => v.category).sum ≤ 8) (hdg : decode cc pc = .ok (.invokeinterface idx cnt, 5)) (hf : cells + C ≤ R.cells ∧ slots + S ≤ R.slots) :
    vx_Run5 p l e R s m args below meth c H locs cells slots C S (F0 m pc ls st0) rest (zc_Q D cA P (fun v h' => ∃ z : Int32, v = some (.int z) ∧ Q z ∧ h = h') (Value.ref a :: []).toArray) (zc_X D cA P zc_no) P := by
  unfold fv_ground_6 at hF
  have hR9 := hR
  obtain ⟨hc, hF⟩ := hF
  simp only [List.mem_cons, List.not_mem_nil, or_false] at hc
  rcases hc with hc | hc | hc | hc | hc | hc
  · have hF := hF (by rw [hc]; decide)
    exact zc_rF X hH hc (by decide) (by decide) rfl (As := []) (wc_X9_ground X.2.2.2.2.2.2.2.1 hF) (lw_F hlk q1146 q1133 q114 q1135) (by decide +kernel) ⟨by decide, by decide, rfl⟩ (zc_rm_le hR9 (by decide) (by decide)) rfl hsize hst hcat hdg hf
  · have hF := hF (by rw [hc]; decide)
    exact zc_rF X hH hc (by decide) (by decide) rfl (As := []) (wc_X9_ground X.2.2.2.2.2.2.2.1 hF) (lw_F hlk q1137 q1133 q114 q1135) (by decide +kernel) ⟨by decide, by decide, rfl⟩ (zc_rm_le hR9 (by decide) (by decide)) rfl hsize hst hcat hdg hf
  · have hF := hF (by rw [hc]; decide)
    exact zc_rF X hH hc (by decide) (by decide) rfl (As := []) (wc_X9_ground X.2.2.2.2.2.2.2.1 hF) (lw_F hlk q1140 q1133 q114 q1135) (by decide +kernel) ⟨by decide, by decide, rfl⟩ (zc_rm_le hR9 (by decide) (by decide)) rfl hsize hst hcat hdg hf
  · have hF := hF (by rw [hc]; decide)
    exact zc_rF X hH hc (by decide) (by decide) rfl (As := []) (wc_X9_ground X.2.2.2.2.2.2.2.1 hF) (lw_F hlk q1149 q1133 q114 q1135) (by decide +kernel) ⟨by decide, by decide, rfl⟩ (zc_rm_le hR9 (by decide) (by decide)) rfl hsize hst hcat hdg hf
  · have hF := hF (by rw [hc]; decide)
    exact zc_rF X hH hc (by decide) (by decide) rfl (As := []) (wc_X9_ground X.2.2.2.2.2.2.2.1 hF) (lw_F hlk q1143 q1133 q114 q1135) (by decide +kernel) ⟨by decide, by decide, rfl⟩ (zc_rm_le hR9 (by decide) (by decide)) rfl hsize hst hcat hdg hf
  · have hF := hF (by rw [hc]; decide)
    exact zc_rF X hH hc (by decide) (by decide) rfl (As := []) (wc_X9_ground X.2.2.2.2.2.2.2.1 hF) (lw_F hlk q1131 q1133 q114 q1135) (by decide +kernel) ⟨by decide, by decide, rfl⟩ (zc_rm_le hR9 (by decide) (by decide)) rfl hsize hst hcat hdg hf
set_option maxHeartbeats 4000000 in
set_option maxRecDepth 100000 in
theorem wc_X19_years {l : Launch} {D : va_G} {cA : Nat → ClassId} {P : Nat → Prop} {G : Nat × Nat × Nat} {o : Nat} {Q : Int32 → Prop} {h : ZH} {C S : Nat} {v1 : Int32} (hl9 : l.stackTraces = false) (hF : fc_X19_years G o Q h v1) :
    zc_M l yX19_years (ws_ yX19_years cX19_years 2 (some .int)) 2 D cA P G [.ref o, .int v1] h C S (fun v h' => ∃ z : Int32, v = some (.int z) ∧ Q z ∧ h = h') zc_no := by
  refine zc_ofF hl9 rfl (by decide +kernel) (Nat.le_of_ble_eq_true rfl) ?_
  intro p e s m args below meth c H locs ls X hN hT hH hl
  have hx := X.1
  have hb := X.2.1
  have hown := X.2.2.2.1
  have hts := X.2.2.2.2.1
  have hl : lv_has ls 2 [(0, .ref o), (1, .int v1)] := hl
  have hB : 0 + 0 ≤ C ∧ 0 + 0 ≤ S := ⟨by omega, by omega⟩
  have eh : h = h := rfl
  unfold fc_X19_years at hF
  refine lv_iload_n hx hb dX19_years_0 rfl (lv_at hl 1 rfl) ?_
  refine lv_if_ne (tgt := 18) hx hb dX19_years_1 (by decide) (fun cd => ?_) (fun cd => ?_)
  · have hF := hF.1 cd
    refine lv_iload_n hx hb dX19_years_18 rfl (lv_at hl 1 rfl) ?_
    refine lv_iconst (v := 2) hx hb dX19_years_19 (by decide) ?_
    refine lv_icmp_ne (tgt := 37) hx hb dX19_years_20 (by decide) (fun cd => ?_) (fun cd => ?_)
    · have hF := hF.1 cd
      refine lv_bipush (v := 10) hx hb dX19_years_37 (by decide) ?_
      exact zc_iret X hH hB rfl rfl ⟨_, rfl, hF, eh⟩ dX19_years_39
    · have hF := hF.2 cd
      refine lv_bipush (v := 12) hx hb dX19_years_23 (by decide) ?_
      refine lv_iconst (v := 2) hx hb dX19_years_25 (by decide) ?_
      refine lv_aload_n hx hb dX19_years_26 rfl (lv_at hl 0 rfl) ?_
      refine zc_call5 (c1 := 0) (s1 := 0) (rest := [.int 2, .int 12]) hH hB (Nat.zero_le _) (Nat.zero_le _) (fun hf => rv_ground_6 X hH q1127 hF ⟨Nat.le_of_ble_eq_true rfl, Nat.le_of_ble_eq_true rfl, Nat.le_of_ble_eq_true rfl⟩ hl.1 (st0 := [.ref o, .int 2, .int 12]) rfl (Nat.le_of_ble_eq_true rfl) dX19_years_27 hf) (fun v9 h9 H locs hv9 hH hB => ?_)
      obtain ⟨z1, rfl, hF, rfl⟩ := hv9
      refine lv_imul hx hb dX19_years_32 ?_
      refine lv_iadd hx hb dX19_years_33 ?_
      refine lv_goto (tgt := 39) hx hb dX19_years_34 (by decide) ?_
      exact zc_iret X hH hB rfl rfl ⟨_, rfl, hF, eh⟩ dX19_years_39
  · have hF := hF.2 cd
    refine lv_bipush (v := 20) hx hb dX19_years_4 (by decide) ?_
    refine lv_iconst (v := 4) hx hb dX19_years_6 (by decide) ?_
    refine lv_aload_n hx hb dX19_years_7 rfl (lv_at hl 0 rfl) ?_
    refine zc_call5 (c1 := 0) (s1 := 0) (rest := [.int 4, .int 20]) hH hB (Nat.zero_le _) (Nat.zero_le _) (fun hf => rv_ground_6 X hH q1127 hF ⟨Nat.le_of_ble_eq_true rfl, Nat.le_of_ble_eq_true rfl, Nat.le_of_ble_eq_true rfl⟩ hl.1 (st0 := [.ref o, .int 4, .int 20]) rfl (Nat.le_of_ble_eq_true rfl) dX19_years_8 hf) (fun v9 h9 H locs hv9 hH hB => ?_)
    obtain ⟨z2, rfl, hF, rfl⟩ := hv9
    refine lv_imul hx hb dX19_years_13 ?_
    refine lv_iadd hx hb dX19_years_14 ?_
    refine lv_goto (tgt := 39) hx hb dX19_years_15 (by decide) ?_
    exact zc_iret X hH hB rfl rfl ⟨_, rfl, hF, eh⟩ dX19_years_39
set_option maxHeartbeats 1000000 in
theorem rv_years_7 {p : Program} {l : Launch} {e : Env} {R : Room} {s : State} {m : MethodId} {args : Array Value} {below : List Frame} {meth : Method} {c : Code} {H : Heap} {locs : List Loc} {cells slots : Nat} {cc : ByteArray} {nL pc : Nat} {ret : Option FieldType} {own : String} {ls : Array Slot} {rest : List Value} {D : va_G} {cA : Nat → ClassId} {P : Nat → Prop} {G : Nat × Nat × Nat} {h : ZH} {C S a idx : Nat} {Q : Int32 → Prop} {v1 : Int32} (X : zc_Cx p l s m args meth c cc nL ret own D cA P G) (hH : zc_H D cA P h s H locs) (hlk : Cond.methodLink own idx ⟨"ChurchyardBook$Grave", "years", "(I)I"⟩ ∈ zc_gd) (hF : fv_years_7 G a Q h v1) (hR : zc_rm R 2 11) (hsize : ls.size = nL) {st0 : List Value} (hst : st0 = ([.int v1] : List Value).reverse ++ .ref a :: rest) (hcat : (rest.map fun v => v.category).sum ≤ 8) (hdg : decode cc pc = .ok (.invokevirtual idx, 3)) (hf : cells + C ≤ R.cells ∧ slots + S ≤ R.slots) :
    vx_Run p l e R s m args below meth c H locs cells slots C S (F0 m pc ls st0) rest (zc_Q D cA P (fun v h' => ∃ z : Int32, v = some (.int z) ∧ Q z ∧ h = h') (Value.ref a :: [.int v1]).toArray) (zc_X D cA P zc_no) P := by
  unfold fv_years_7 at hF
  have hR9 := hR
  obtain ⟨hc, hF⟩ := hF
  simp only [List.mem_cons, List.not_mem_nil, or_false] at hc
  rcases hc with hc | hc | hc | hc | hc | hc
  · have hF := hF (by rw [hc]; decide)
    exact zc_runD X hH hc (by decide) rfl (owner := "ChurchyardBook$Rests") (As := [.int v1]) (wc_X19_years X.2.2.2.2.2.2.2.1 hF).met (lw_meth q1125) rfl rfl rfl ⟨by have := hR9.1; show _ + 8 + 1 ≤ _; omega, by have := hR9.2.2; show 8 + (_ + 11) + (10240 + 40 * _) ≤ _; omega⟩ hlk (by decide +kernel) (by decide +kernel) (by decide) (by decide +kernel) q1123 q2246 rfl rfl hsize hst hcat hdg hf
  · have hF := hF (by rw [hc]; decide)
    exact zc_runD X hH hc (by decide) rfl (owner := "ChurchyardBook$Rests") (As := [.int v1]) (wc_X19_years X.2.2.2.2.2.2.2.1 hF).met (lw_meth q1125) rfl rfl rfl ⟨by have := hR9.1; show _ + 8 + 1 ≤ _; omega, by have := hR9.2.2; show 8 + (_ + 11) + (10240 + 40 * _) ≤ _; omega⟩ hlk (by decide +kernel) (by decide +kernel) (by decide) (by decide +kernel) q1123 q2246 rfl rfl hsize hst hcat hdg hf
  · have hF := hF (by rw [hc]; decide)
    exact zc_runD X hH hc (by decide) rfl (owner := "ChurchyardBook$Rests") (As := [.int v1]) (wc_X19_years X.2.2.2.2.2.2.2.1 hF).met (lw_meth q1125) rfl rfl rfl ⟨by have := hR9.1; show _ + 8 + 1 ≤ _; omega, by have := hR9.2.2; show 8 + (_ + 11) + (10240 + 40 * _) ≤ _; omega⟩ hlk (by decide +kernel) (by decide +kernel) (by decide) (by decide +kernel) q1123 q2246 rfl rfl hsize hst hcat hdg hf
  · have hF := hF (by rw [hc]; decide)
    exact zc_runD X hH hc (by decide) rfl (owner := "ChurchyardBook$Rests") (As := [.int v1]) (wc_X19_years X.2.2.2.2.2.2.2.1 hF).met (lw_meth q1125) rfl rfl rfl ⟨by have := hR9.1; show _ + 8 + 1 ≤ _; omega, by have := hR9.2.2; show 8 + (_ + 11) + (10240 + 40 * _) ≤ _; omega⟩ hlk (by decide +kernel) (by decide +kernel) (by decide) (by decide +kernel) q1123 q2246 rfl rfl hsize hst hcat hdg hf
  · have hF := hF (by rw [hc]; decide)
    exact zc_runD X hH hc (by decide) rfl (owner := "ChurchyardBook$Rests") (As := [.int v1]) (wc_X19_years X.2.2.2.2.2.2.2.1 hF).met (lw_meth q1125) rfl rfl rfl ⟨by have := hR9.1; show _ + 8 + 1 ≤ _; omega, by have := hR9.2.2; show 8 + (_ + 11) + (10240 + 40 * _) ≤ _; omega⟩ hlk (by decide +kernel) (by decide +kernel) (by decide) (by decide +kernel) q1123 q2246 rfl rfl hsize hst hcat hdg hf
  · have hF := hF (by rw [hc]; decide)
    exact zc_runD X hH hc (by decide) rfl (owner := "ChurchyardBook$Rests") (As := [.int v1]) (wc_X19_years X.2.2.2.2.2.2.2.1 hF).met (lw_meth q1125) rfl rfl rfl ⟨by have := hR9.1; show _ + 8 + 1 ≤ _; omega, by have := hR9.2.2; show 8 + (_ + 11) + (10240 + 40 * _) ≤ _; omega⟩ hlk (by decide +kernel) (by decide +kernel) (by decide) (by decide +kernel) q1123 q2246 rfl rfl hsize hst hcat hdg hf
set_option maxHeartbeats 4000000 in
set_option maxRecDepth 100000 in
theorem wc_X5_endOf {l : Launch} {D : va_G} {cA : Nat → ClassId} {P : Nat → Prop} {G : Nat × Nat × Nat} {o : Nat} {Q : Int32 → Prop} {h : ZH} {C S : Nat} {q1 : Option Nat} {v2 : Int32} (hl9 : l.stackTraces = false) (hF : fc_X5_endOf G o Q h q1 v2) :
    zc_M l yX5_endOf (ws_ yX5_endOf cX5_endOf 3 (some .int)) 3 D cA P G [.ref o, va_rf q1, .int v2] h C S (fun v h' => ∃ z : Int32, v = some (.int z) ∧ Q z ∧ h = h') zc_no := by
  refine zc_ofF hl9 rfl (by decide +kernel) (zc_slle (by simp [zc_k1, zc_kI, zc_kR]) (Nat.le_of_ble_eq_true rfl)) ?_
  intro p e s m args below meth c H locs ls X hN hT hH hl
  have hx := X.1
  have hb := X.2.1
  have hown := X.2.2.2.1
  have hts := X.2.2.2.2.1
  have hl : lv_has ls 3 [(0, .ref o), (1, va_rf q1), (2, .int v2)] := by
    have h9 := hl
    rw [zc_ags _ (by simp [zc_k1, zc_kI, zc_kR]) 0] at h9
    exact h9
  have hB : 0 + 0 ≤ C ∧ 0 + 0 ≤ S := ⟨by omega, by omega⟩
  have eh : h = h := rfl
  unfold fc_X5_endOf at hF
  refine lv_aload_n hx hb dX5_endOf_0 rfl (lv_at hl 0 rfl) ?_
  obtain ⟨hc, hF⟩ := hF
  refine zc_getf X hH hc 3 203 ("ChurchyardBook$Book", "today", "I", false) (by decide +kernel) (v := .int (zi h 203 o)) rfl q194 (Or.inl rfl) dX5_endOf_1 ?_
  refine lv_sipush (v := 365) hx hb dX5_endOf_4 (by decide) ?_
  refine zq_aload_n hx hb dX5_endOf_7 rfl (lv_at hl 1 rfl) ?_
  refine lv_iload_n hx hb dX5_endOf_8 rfl (lv_at hl 2 rfl) ?_
  obtain ⟨b1, eb1, hF⟩ := hF
  refine zq_st (st2 := [.int v2, .ref b1, .int 365, .int (zi h 203 o)]) (by rw [eb1]; first | done | rfl) ?_
  refine zc_call (c1 := 0) (s1 := 0) (rest := [.int 365, .int (zi h 203 o)]) hH hB (Nat.zero_le _) (Nat.zero_le _) (fun hf => rv_years_7 X hH (by decide +kernel) hF ⟨Nat.le_of_ble_eq_true rfl, Nat.le_of_ble_eq_true rfl, Nat.le_of_ble_eq_true rfl⟩ hl.1 (st0 := [.int v2, .ref b1, .int 365, .int (zi h 203 o)]) rfl (Nat.le_of_ble_eq_true rfl) dX5_endOf_9 hf) (fun E9 ce9 q9 h9 H locs hx9 => False.elim hx9) (fun v9 h9 H locs hv9 hH hB => ?_)
  obtain ⟨z2, rfl, hF, rfl⟩ := hv9
  refine lv_imul hx hb dX5_endOf_12 ?_
  refine lv_iadd hx hb dX5_endOf_13 ?_
  exact zc_iret X hH hB rfl rfl ⟨_, rfl, hF, eh⟩ dX5_endOf_14
set_option maxHeartbeats 4000000 in
set_option maxRecDepth 100000 in
theorem wc_X9_columns {l : Launch} {D : va_G} {cA : Nat → ClassId} {P : Nat → Prop} {G : Nat × Nat × Nat} {o : Nat} {Q : Int32 → Prop} {h : ZH} {C S : Nat} (hl9 : l.stackTraces = false) (hF : fc_X9_columns G o Q h) :
    zc_M l yX9_columns (ws_ yX9_columns cX9_columns 1 (some .int)) 1 D cA P G [.ref o] h C S (fun v h' => ∃ z : Int32, v = some (.int z) ∧ Q z ∧ h = h') zc_no := by
  refine zc_ofF hl9 rfl (by decide +kernel) (Nat.le_of_ble_eq_true rfl) ?_
  intro p e s m args below meth c H locs ls X hN hT hH hl
  have hx := X.1
  have hb := X.2.1
  have hown := X.2.2.2.1
  have hts := X.2.2.2.2.1
  have hl : lv_has ls 1 [(0, .ref o)] := hl
  have hB : 0 + 0 ≤ C ∧ 0 + 0 ≤ S := ⟨by omega, by omega⟩
  have eh : h = h := rfl
  unfold fc_X9_columns at hF
  refine lv_iconst (v := 1) hx hb dX9_columns_0 (by decide) ?_
  exact zc_iret X hH hB rfl rfl ⟨_, rfl, hF, eh⟩ dX9_columns_1
set_option maxHeartbeats 4000000 in
set_option maxRecDepth 100000 in
theorem wc_X12_columns {l : Launch} {D : va_G} {cA : Nat → ClassId} {P : Nat → Prop} {G : Nat × Nat × Nat} {o : Nat} {Q : Int32 → Prop} {h : ZH} {C S : Nat} (hl9 : l.stackTraces = false) (hF : fc_X12_columns G o Q h) :
    zc_M l yX12_columns (ws_ yX12_columns cX12_columns 1 (some .int)) 1 D cA P G [.ref o] h C S (fun v h' => ∃ z : Int32, v = some (.int z) ∧ Q z ∧ h = h') zc_no := by
  refine zc_ofF hl9 rfl (by decide +kernel) (Nat.le_of_ble_eq_true rfl) ?_
  intro p e s m args below meth c H locs ls X hN hT hH hl
  have hx := X.1
  have hb := X.2.1
  have hown := X.2.2.2.1
  have hts := X.2.2.2.2.1
  have hl : lv_has ls 1 [(0, .ref o)] := hl
  have hB : 0 + 0 ≤ C ∧ 0 + 0 ≤ S := ⟨by omega, by omega⟩
  have eh : h = h := rfl
  unfold fc_X12_columns at hF
  refine lv_aload_n hx hb dX12_columns_0 rfl (lv_at hl 0 rfl) ?_
  obtain ⟨hc, hF⟩ := hF
  refine zc_getf X hH hc 4 604 ("ChurchyardBook$Grave", "wide", "I", true) (by decide +kernel) (v := .int (zi h 604 o)) rfl q667 (Or.inr q668) dX12_columns_1 ?_
  exact zc_iret X hH hB rfl rfl ⟨_, rfl, hF, eh⟩ dX12_columns_4
set_option maxHeartbeats 1000000 in
theorem rv_columns_28 {p : Program} {l : Launch} {e : Env} {R : Room} {s : State} {m : MethodId} {args : Array Value} {below : List Frame} {meth : Method} {c : Code} {H : Heap} {locs : List Loc} {cells slots : Nat} {cc : ByteArray} {nL pc : Nat} {ret : Option FieldType} {own : String} {ls : Array Slot} {rest : List Value} {D : va_G} {cA : Nat → ClassId} {P : Nat → Prop} {G : Nat × Nat × Nat} {h : ZH} {C S a idx : Nat} {Q : Int32 → Prop} (X : zc_Cx p l s m args meth c cc nL ret own D cA P G) (hH : zc_H D cA P h s H locs) (hlk : Cond.methodLink own idx ⟨"ChurchyardBook$Deep", "columns", "()I"⟩ ∈ lw_all) (hF : fv_columns_28 G a Q h) (hR : zc_rm R 1 11) (hsize : ls.size = nL) {st0 : List Value} (hst : st0 = ([] : List Value).reverse ++ .ref a :: rest) (hcat : (rest.map fun v => v.category).sum ≤ 8) (hdg : decode cc pc = .ok (.invokevirtual idx, 3)) (hf : cells + C ≤ R.cells ∧ slots + S ≤ R.slots) :
    vx_Run p l e R s m args below meth c H locs cells slots C S (F0 m pc ls st0) rest (zc_Q D cA P (fun v h' => ∃ z : Int32, v = some (.int z) ∧ Q z ∧ h = h') (Value.ref a :: []).toArray) (zc_X D cA P zc_no) P := by
  unfold fv_columns_28 at hF
  have hR9 := hR
  obtain ⟨hc, hF⟩ := hF
  simp only [List.mem_cons, List.not_mem_nil, or_false] at hc
  rcases hc with hc | hc
  · have hF := hF.1 (by rw [hc]; decide)
    exact zc_rU X hH hc (by decide) rfl (owner := "ChurchyardBook$Grave") (x := ⟨"ChurchyardBook$Deep", "columns", "()I"⟩) (As := []) (wc_X9_columns X.2.2.2.2.2.2.2.1 hF) (lw_meth q1180) (X.2.2.2.2.1 _ hlk) (X.2.2.2.2.1 _ q1563) (zc_declC X q1166 q1180) (X.2.2.2.2.1 _ q1565) q1166 q114 ⟨by decide, by decide, rfl⟩ (zc_rm_le hR9 (by decide) (by decide)) rfl hsize hst hcat hdg hf
  · have hF := hF.2 (by rw [hc]; decide)
    exact zc_rU X hH hc (by decide) rfl (owner := "ChurchyardBook$Grave") (x := ⟨"ChurchyardBook$Deep", "columns", "()I"⟩) (As := []) (wc_X12_columns X.2.2.2.2.2.2.2.1 hF) (lw_meth q1172) (X.2.2.2.2.1 _ hlk) (X.2.2.2.2.1 _ q1563) (zc_declC X q1166 q1180) (X.2.2.2.2.1 _ q1566) q1171 q117 ⟨by decide, by decide, rfl⟩ (zc_rm_le hR9 (by decide) (by decide)) rfl hsize hst hcat hdg hf
set_option maxHeartbeats 4000000 in
set_option maxRecDepth 100000 in
theorem wc_X13_columns {l : Launch} {D : va_G} {cA : Nat → ClassId} {P : Nat → Prop} {G : Nat × Nat × Nat} {o : Nat} {Q : Int32 → Prop} {h : ZH} {C S : Nat} (hl9 : l.stackTraces = false) (hF : fc_X13_columns G o Q h) :
    zc_M l yX13_columns (ws_ yX13_columns cX13_columns 1 (some .int)) 1 D cA P G [.ref o] h C S (fun v h' => ∃ z : Int32, v = some (.int z) ∧ Q z ∧ h = h') zc_no := by
  refine zc_ofF hl9 rfl (by decide +kernel) (Nat.le_of_ble_eq_true rfl) ?_
  intro p e s m args below meth c H locs ls X hN hT hH hl
  have hx := X.1
  have hb := X.2.1
  have hown := X.2.2.2.1
  have hts := X.2.2.2.2.1
  have hl : lv_has ls 1 [(0, .ref o)] := hl
  have hB : 0 + 0 ≤ C ∧ 0 + 0 ≤ S := ⟨by omega, by omega⟩
  have eh : h = h := rfl
  unfold fc_X13_columns at hF
  refine lv_iconst (v := 4) hx hb dX13_columns_0 (by decide) ?_
  exact zc_iret X hH hB rfl rfl ⟨_, rfl, hF, eh⟩ dX13_columns_1
set_option maxHeartbeats 4000000 in
set_option maxRecDepth 100000 in
theorem wc_X14_columns {l : Launch} {D : va_G} {cA : Nat → ClassId} {P : Nat → Prop} {G : Nat × Nat × Nat} {o : Nat} {Q : Int32 → Prop} {h : ZH} {C S : Nat} (hl9 : l.stackTraces = false) (hF : fc_X14_columns G o Q h) :
    zc_M l yX14_columns (ws_ yX14_columns cX14_columns 1 (some .int)) 1 D cA P G [.ref o] h C S (fun v h' => ∃ z : Int32, v = some (.int z) ∧ Q z ∧ h = h') zc_no := by
  refine zc_ofF hl9 rfl (by decide +kernel) (Nat.le_of_ble_eq_true rfl) ?_
  intro p e s m args below meth c H locs ls X hN hT hH hl
  have hx := X.1
  have hb := X.2.1
  have hown := X.2.2.2.1
  have hts := X.2.2.2.2.1
  have hl : lv_has ls 1 [(0, .ref o)] := hl
  have hB : 0 + 0 ≤ C ∧ 0 + 0 ≤ S := ⟨by omega, by omega⟩
  have eh : h = h := rfl
  unfold fc_X14_columns at hF
  refine lv_iconst (v := 1) hx hb dX14_columns_0 (by decide) ?_
  exact zc_iret X hH hB rfl rfl ⟨_, rfl, hF, eh⟩ dX14_columns_1
set_option maxHeartbeats 1000000 in
theorem rv_columns_8 {p : Program} {l : Launch} {e : Env} {R : Room} {s : State} {m : MethodId} {args : Array Value} {below : List Frame} {meth : Method} {c : Code} {H : Heap} {locs : List Loc} {cells slots : Nat} {cc : ByteArray} {nL pc : Nat} {ret : Option FieldType} {own : String} {ls : Array Slot} {rest : List Value} {D : va_G} {cA : Nat → ClassId} {P : Nat → Prop} {G : Nat × Nat × Nat} {h : ZH} {C S a idx : Nat} {Q : Int32 → Prop} (X : zc_Cx p l s m args meth c cc nL ret own D cA P G) (hH : zc_H D cA P h s H locs) (hlk : Cond.methodLink own idx ⟨"ChurchyardBook$Grave", "columns", "()I"⟩ ∈ lw_all) (hF : fv_columns_8 G a Q h) (hR : zc_rm R 1 11) (hsize : ls.size = nL) {st0 : List Value} (hst : st0 = ([] : List Value).reverse ++ .ref a :: rest) (hcat : (rest.map fun v => v.category).sum ≤ 8) (hdg : decode cc pc = .ok (.invokevirtual idx, 3)) (hf : cells + C ≤ R.cells ∧ slots + S ≤ R.slots) :
    vx_Run p l e R s m args below meth c H locs cells slots C S (F0 m pc ls st0) rest (zc_Q D cA P (fun v h' => ∃ z : Int32, v = some (.int z) ∧ Q z ∧ h = h') (Value.ref a :: []).toArray) (zc_X D cA P zc_no) P := by
  unfold fv_columns_8 at hF
  have hR9 := hR
  obtain ⟨hc, hF⟩ := hF
  simp only [List.mem_cons, List.not_mem_nil, or_false] at hc
  rcases hc with hc | hc | hc | hc | hc | hc
  · have hF := hF.1 (by rw [hc]; decide)
    exact zc_rU X hH hc (by decide) rfl (owner := "ChurchyardBook$Grave") (x := ⟨"ChurchyardBook$Grave", "columns", "()I"⟩) (As := []) (wc_X9_columns X.2.2.2.2.2.2.2.1 hF) (lw_meth q1180) (X.2.2.2.2.1 _ hlk) (X.2.2.2.2.1 _ q1167) (zc_declC X q1166 q1180) (X.2.2.2.2.1 _ q1176) q1166 q114 ⟨by decide, by decide, rfl⟩ (zc_rm_le hR9 (by decide) (by decide)) rfl hsize hst hcat hdg hf
  · have hF := hF.1 (by rw [hc]; decide)
    exact zc_rU X hH hc (by decide) rfl (owner := "ChurchyardBook$Grave") (x := ⟨"ChurchyardBook$Grave", "columns", "()I"⟩) (As := []) (wc_X9_columns X.2.2.2.2.2.2.2.1 hF) (lw_meth q1180) (X.2.2.2.2.1 _ hlk) (X.2.2.2.2.1 _ q1167) (zc_declC X q1166 q1180) (X.2.2.2.2.1 _ q1169) q1166 q114 ⟨by decide, by decide, rfl⟩ (zc_rm_le hR9 (by decide) (by decide)) rfl hsize hst hcat hdg hf
  · have hF := hF.2.1 (by rw [hc]; decide)
    exact zc_rU X hH hc (by decide) rfl (owner := "ChurchyardBook$Grave") (x := ⟨"ChurchyardBook$Grave", "columns", "()I"⟩) (As := []) (wc_X12_columns X.2.2.2.2.2.2.2.1 hF) (lw_meth q1172) (X.2.2.2.2.1 _ hlk) (X.2.2.2.2.1 _ q1167) (zc_declC X q1166 q1180) (X.2.2.2.2.1 _ q1170) q1171 q117 ⟨by decide, by decide, rfl⟩ (zc_rm_le hR9 (by decide) (by decide)) rfl hsize hst hcat hdg hf
  · have hF := hF.2.2.1 (by rw [hc]; decide)
    exact zc_rU X hH hc (by decide) rfl (owner := "ChurchyardBook$Grave") (x := ⟨"ChurchyardBook$Grave", "columns", "()I"⟩) (As := []) (wc_X13_columns X.2.2.2.2.2.2.2.1 hF) (lw_meth q1179) (X.2.2.2.2.1 _ hlk) (X.2.2.2.2.1 _ q1167) (zc_declC X q1166 q1180) (X.2.2.2.2.1 _ q1177) q1178 q118 ⟨by decide, by decide, rfl⟩ (zc_rm_le hR9 (by decide) (by decide)) rfl hsize hst hcat hdg hf
  · have hF := hF.2.2.2 (by rw [hc]; decide)
    exact zc_rU X hH hc (by decide) rfl (owner := "ChurchyardBook$Grave") (x := ⟨"ChurchyardBook$Grave", "columns", "()I"⟩) (As := []) (wc_X14_columns X.2.2.2.2.2.2.2.1 hF) (lw_meth q1175) (X.2.2.2.2.1 _ hlk) (X.2.2.2.2.1 _ q1167) (zc_declC X q1166 q1180) (X.2.2.2.2.1 _ q1173) q1174 q119 ⟨by decide, by decide, rfl⟩ (zc_rm_le hR9 (by decide) (by decide)) rfl hsize hst hcat hdg hf
  · have hF := hF.1 (by rw [hc]; decide)
    exact zc_rU X hH hc (by decide) rfl (owner := "ChurchyardBook$Grave") (x := ⟨"ChurchyardBook$Grave", "columns", "()I"⟩) (As := []) (wc_X9_columns X.2.2.2.2.2.2.2.1 hF) (lw_meth q1180) (X.2.2.2.2.1 _ hlk) (X.2.2.2.2.1 _ q1167) (zc_declC X q1166 q1180) (X.2.2.2.2.1 _ q1168) q1166 q114 ⟨by decide, by decide, rfl⟩ (zc_rm_le hR9 (by decide) (by decide)) rfl hsize hst hcat hdg hf
set_option maxHeartbeats 1000000 in
theorem rv_columns_30 {p : Program} {l : Launch} {e : Env} {R : Room} {s : State} {m : MethodId} {args : Array Value} {below : List Frame} {meth : Method} {c : Code} {H : Heap} {locs : List Loc} {cells slots : Nat} {cc : ByteArray} {nL pc : Nat} {ret : Option FieldType} {own : String} {ls : Array Slot} {rest : List Value} {D : va_G} {cA : Nat → ClassId} {P : Nat → Prop} {G : Nat × Nat × Nat} {h : ZH} {C S a idx : Nat} {Q : Int32 → Prop} (X : zc_Cx p l s m args meth c cc nL ret own D cA P G) (hH : zc_H D cA P h s H locs) (hlk : Cond.methodLink own idx ⟨"ChurchyardBook$Wall", "columns", "()I"⟩ ∈ lw_all) (hF : fv_columns_30 G a Q h) (hR : zc_rm R 1 11) (hsize : ls.size = nL) {st0 : List Value} (hst : st0 = ([] : List Value).reverse ++ .ref a :: rest) (hcat : (rest.map fun v => v.category).sum ≤ 8) (hdg : decode cc pc = .ok (.invokevirtual idx, 3)) (hf : cells + C ≤ R.cells ∧ slots + S ≤ R.slots) :
    vx_Run p l e R s m args below meth c H locs cells slots C S (F0 m pc ls st0) rest (zc_Q D cA P (fun v h' => ∃ z : Int32, v = some (.int z) ∧ Q z ∧ h = h') (Value.ref a :: []).toArray) (zc_X D cA P zc_no) P := by
  unfold fv_columns_30 at hF
  have hR9 := hR
  obtain ⟨hc, hF⟩ := hF
  simp only [List.mem_cons, List.not_mem_nil, or_false] at hc
  rcases hc with hc | hc
  · have hF := hF.1 (by rw [hc]; decide)
    exact zc_rV X hH hc (by decide) rfl (As := []) (wc_X13_columns X.2.2.2.2.2.2.2.1 hF) (lw_V hlk q1178 q2243 q118 q1179) ⟨rfl, by decide, by decide, rfl⟩ (zc_rm_le hR9 (by decide) (by decide)) rfl hsize hst hcat hdg hf
  · have hF := hF.2 (by rw [hc]; decide)
    exact zc_rU X hH hc (by decide) rfl (owner := "ChurchyardBook$Wall") (x := ⟨"ChurchyardBook$Wall", "columns", "()I"⟩) (As := []) (wc_X14_columns X.2.2.2.2.2.2.2.1 hF) (lw_meth q1175) (X.2.2.2.2.1 _ hlk) (X.2.2.2.2.1 _ q2241) (zc_declC X q1178 q1179) (X.2.2.2.2.1 _ q2242) q1174 q119 ⟨by decide, by decide, rfl⟩ (zc_rm_le hR9 (by decide) (by decide)) rfl hsize hst hcat hdg hf
set_option maxHeartbeats 4000000 in
set_option maxRecDepth 100000 in
theorem wc_X9_isColumn {l : Launch} {D : va_G} {cA : Nat → ClassId} {P : Nat → Prop} {G : Nat × Nat × Nat} {o : Nat} {Q : Int32 → Prop} {h : ZH} {C S : Nat} {v1 : Int32} (hl9 : l.stackTraces = false) (hF : fc_X9_isColumn G o Q h v1) :
    zc_M l yX9_isColumn (ws_ yX9_isColumn cX9_isColumn 2 (some .boolean)) 2 D cA P G [.ref o, .int v1] h C S (fun v h' => ∃ z : Int32, v = some (.int z) ∧ Q z ∧ h = h') zc_no := by
  refine zc_ofF hl9 rfl (by decide +kernel) (Nat.le_of_ble_eq_true rfl) ?_
  intro p e s m args below meth c H locs ls X hN hT hH hl
  have hx := X.1
  have hb := X.2.1
  have hown := X.2.2.2.1
  have hts := X.2.2.2.2.1
  have hl : lv_has ls 2 [(0, .ref o), (1, .int v1)] := hl
  have hB : 0 + 0 ≤ C ∧ 0 + 0 ≤ S := ⟨by omega, by omega⟩
  have eh : h = h := rfl
  unfold fc_X9_isColumn at hF
  refine lv_iload_n hx hb dX9_isColumn_0 rfl (lv_at hl 1 rfl) ?_
  refine lv_if_lt (tgt := 16) hx hb dX9_isColumn_1 (by decide) (fun cd => ?_) (fun cd => ?_)
  · have hF := hF.1 cd
    refine lv_iconst (v := 0) hx hb dX9_isColumn_16 (by decide) ?_
    exact zc_iret X hH hB rfl rfl ⟨_, rfl, hF, eh⟩ dX9_isColumn_17
  · have hF := hF.2 cd
    refine lv_iload_n hx hb dX9_isColumn_4 rfl (lv_at hl 1 rfl) ?_
    refine lv_aload_n hx hb dX9_isColumn_5 rfl (lv_at hl 0 rfl) ?_
    refine zc_call (c1 := 0) (s1 := 0) (rest := [.int v1]) hH hB (Nat.zero_le _) (Nat.zero_le _) (fun hf => rv_columns_8 X hH q1165 hF ⟨Nat.le_of_ble_eq_true rfl, Nat.le_of_ble_eq_true rfl, Nat.le_of_ble_eq_true rfl⟩ hl.1 (st0 := [.ref o, .int v1]) rfl (Nat.le_of_ble_eq_true rfl) dX9_isColumn_6 hf) (fun E9 ce9 q9 h9 H locs hx9 => False.elim hx9) (fun v9 h9 H locs hv9 hH hB => ?_)
    obtain ⟨z1, rfl, hF, rfl⟩ := hv9
    refine lv_icmp_ge (tgt := 16) hx hb dX9_isColumn_9 (by decide) (fun cd => ?_) (fun cd => ?_)
    · have hF := hF.1 cd
      refine lv_iconst (v := 0) hx hb dX9_isColumn_16 (by decide) ?_
      exact zc_iret X hH hB rfl rfl ⟨_, rfl, hF, eh⟩ dX9_isColumn_17
    · have hF := hF.2 cd
      refine lv_iconst (v := 1) hx hb dX9_isColumn_12 (by decide) ?_
      refine lv_goto (tgt := 17) hx hb dX9_isColumn_13 (by decide) ?_
      exact zc_iret X hH hB rfl rfl ⟨_, rfl, hF, eh⟩ dX9_isColumn_17
set_option maxHeartbeats 1000000 in
theorem rv_isColumn_17 {p : Program} {l : Launch} {e : Env} {R : Room} {s : State} {m : MethodId} {args : Array Value} {below : List Frame} {meth : Method} {c : Code} {H : Heap} {locs : List Loc} {cells slots : Nat} {cc : ByteArray} {nL pc : Nat} {ret : Option FieldType} {own : String} {ls : Array Slot} {rest : List Value} {D : va_G} {cA : Nat → ClassId} {P : Nat → Prop} {G : Nat × Nat × Nat} {h : ZH} {C S a idx : Nat} {Q : Int32 → Prop} {v1 : Int32} (X : zc_Cx p l s m args meth c cc nL ret own D cA P G) (hH : zc_H D cA P h s H locs) (hlk : Cond.methodLink own idx ⟨"ChurchyardBook$Grave", "isColumn", "(I)Z"⟩ ∈ lw_all) (hF : fv_isColumn_17 G a Q h v1) (hR : zc_rm R 2 11) (hsize : ls.size = nL) {st0 : List Value} (hst : st0 = ([.int v1] : List Value).reverse ++ .ref a :: rest) (hcat : (rest.map fun v => v.category).sum ≤ 8) (hdg : decode cc pc = .ok (.invokevirtual idx, 3)) (hf : cells + C ≤ R.cells ∧ slots + S ≤ R.slots) :
    vx_Run p l e R s m args below meth c H locs cells slots C S (F0 m pc ls st0) rest (zc_Q D cA P (fun v h' => ∃ z : Int32, v = some (.int z) ∧ Q z ∧ h = h') (Value.ref a :: [.int v1]).toArray) (zc_X D cA P zc_no) P := by
  unfold fv_isColumn_17 at hF
  have hR9 := hR
  obtain ⟨hc, hF⟩ := hF
  simp only [List.mem_cons, List.not_mem_nil, or_false] at hc
  rcases hc with hc | hc | hc | hc | hc | hc
  · have hF := hF (by rw [hc]; decide)
    exact zc_rU X hH hc (by decide) rfl (owner := "ChurchyardBook$Grave") (x := ⟨"ChurchyardBook$Grave", "isColumn", "(I)Z"⟩) (As := [.int v1]) (wc_X9_isColumn X.2.2.2.2.2.2.2.1 hF) (lw_meth q1164) (X.2.2.2.2.1 _ hlk) (X.2.2.2.2.1 _ q1157) (zc_declC X q1156 q1164) (X.2.2.2.2.1 _ q1162) q1156 q114 ⟨by decide, by decide, rfl⟩ (zc_rm_le hR9 (by decide) (by decide)) rfl hsize hst hcat hdg hf
  · have hF := hF (by rw [hc]; decide)
    exact zc_rU X hH hc (by decide) rfl (owner := "ChurchyardBook$Grave") (x := ⟨"ChurchyardBook$Grave", "isColumn", "(I)Z"⟩) (As := [.int v1]) (wc_X9_isColumn X.2.2.2.2.2.2.2.1 hF) (lw_meth q1164) (X.2.2.2.2.1 _ hlk) (X.2.2.2.2.1 _ q1157) (zc_declC X q1156 q1164) (X.2.2.2.2.1 _ q1159) q1156 q114 ⟨by decide, by decide, rfl⟩ (zc_rm_le hR9 (by decide) (by decide)) rfl hsize hst hcat hdg hf
  · have hF := hF (by rw [hc]; decide)
    exact zc_rU X hH hc (by decide) rfl (owner := "ChurchyardBook$Grave") (x := ⟨"ChurchyardBook$Grave", "isColumn", "(I)Z"⟩) (As := [.int v1]) (wc_X9_isColumn X.2.2.2.2.2.2.2.1 hF) (lw_meth q1164) (X.2.2.2.2.1 _ hlk) (X.2.2.2.2.1 _ q1157) (zc_declC X q1156 q1164) (X.2.2.2.2.1 _ q1160) q1156 q114 ⟨by decide, by decide, rfl⟩ (zc_rm_le hR9 (by decide) (by decide)) rfl hsize hst hcat hdg hf
  · have hF := hF (by rw [hc]; decide)
    exact zc_rU X hH hc (by decide) rfl (owner := "ChurchyardBook$Grave") (x := ⟨"ChurchyardBook$Grave", "isColumn", "(I)Z"⟩) (As := [.int v1]) (wc_X9_isColumn X.2.2.2.2.2.2.2.1 hF) (lw_meth q1164) (X.2.2.2.2.1 _ hlk) (X.2.2.2.2.1 _ q1157) (zc_declC X q1156 q1164) (X.2.2.2.2.1 _ q1163) q1156 q114 ⟨by decide, by decide, rfl⟩ (zc_rm_le hR9 (by decide) (by decide)) rfl hsize hst hcat hdg hf
  · have hF := hF (by rw [hc]; decide)
    exact zc_rU X hH hc (by decide) rfl (owner := "ChurchyardBook$Grave") (x := ⟨"ChurchyardBook$Grave", "isColumn", "(I)Z"⟩) (As := [.int v1]) (wc_X9_isColumn X.2.2.2.2.2.2.2.1 hF) (lw_meth q1164) (X.2.2.2.2.1 _ hlk) (X.2.2.2.2.1 _ q1157) (zc_declC X q1156 q1164) (X.2.2.2.2.1 _ q1161) q1156 q114 ⟨by decide, by decide, rfl⟩ (zc_rm_le hR9 (by decide) (by decide)) rfl hsize hst hcat hdg hf
  · have hF := hF (by rw [hc]; decide)
    exact zc_rU X hH hc (by decide) rfl (owner := "ChurchyardBook$Grave") (x := ⟨"ChurchyardBook$Grave", "isColumn", "(I)Z"⟩) (As := [.int v1]) (wc_X9_isColumn X.2.2.2.2.2.2.2.1 hF) (lw_meth q1164) (X.2.2.2.2.1 _ hlk) (X.2.2.2.2.1 _ q1157) (zc_declC X q1156 q1164) (X.2.2.2.2.1 _ q1158) q1156 q114 ⟨by decide, by decide, rfl⟩ (zc_rm_le hR9 (by decide) (by decide)) rfl hsize hst hcat hdg hf
set_option maxHeartbeats 4000000 in
set_option maxRecDepth 100000 in
theorem wc_X10_takes {l : Launch} {D : va_G} {cA : Nat → ClassId} {P : Nat → Prop} {G : Nat × Nat × Nat} {o : Nat} {Q : Int32 → Prop} {h : ZH} {C S : Nat} {v1 : Int32} (hl9 : l.stackTraces = false) (hF : fc_X10_takes G o Q h v1) :
    zc_M l yX10_takes (ws_ yX10_takes cX10_takes 2 (some .boolean)) 1 D cA P G [.ref o, .int v1] h C S (fun v h' => ∃ z : Int32, v = some (.int z) ∧ Q z ∧ h = h') zc_no := by
  refine zc_ofF hl9 rfl (by decide +kernel) (Nat.le_of_ble_eq_true rfl) ?_
  intro p e s m args below meth c H locs ls X hN hT hH hl
  have hx := X.1
  have hb := X.2.1
  have hown := X.2.2.2.1
  have hts := X.2.2.2.2.1
  have hl : lv_has ls 2 [(0, .ref o), (1, .int v1)] := hl
  have hB : 0 + 0 ≤ C ∧ 0 + 0 ≤ S := ⟨by omega, by omega⟩
  have eh : h = h := rfl
  unfold fc_X10_takes at hF
  refine lv_iload_n hx hb dX10_takes_0 rfl (lv_at hl 1 rfl) ?_
  refine lv_iconst (v := 1) hx hb dX10_takes_1 (by decide) ?_
  refine lv_icmp_eq (tgt := 9) hx hb dX10_takes_2 (by decide) (fun cd => ?_) (fun cd => ?_)
  · have hF := hF.1 cd
    refine lv_iconst (v := 0) hx hb dX10_takes_9 (by decide) ?_
    exact zc_iret X hH hB rfl rfl ⟨_, rfl, hF, eh⟩ dX10_takes_10
  · have hF := hF.2 cd
    refine lv_iconst (v := 1) hx hb dX10_takes_5 (by decide) ?_
    refine lv_goto (tgt := 10) hx hb dX10_takes_6 (by decide) ?_
    exact zc_iret X hH hB rfl rfl ⟨_, rfl, hF, eh⟩ dX10_takes_10
set_option maxHeartbeats 4000000 in
set_option maxRecDepth 100000 in
theorem wc_X13_takes {l : Launch} {D : va_G} {cA : Nat → ClassId} {P : Nat → Prop} {G : Nat × Nat × Nat} {o : Nat} {Q : Int32 → Prop} {h : ZH} {C S : Nat} {v1 : Int32} (hl9 : l.stackTraces = false) (hF : fc_X13_takes G o Q h v1) :
    zc_M l yX13_takes (ws_ yX13_takes cX13_takes 2 (some .boolean)) 1 D cA P G [.ref o, .int v1] h C S (fun v h' => ∃ z : Int32, v = some (.int z) ∧ Q z ∧ h = h') zc_no := by
  refine zc_ofF hl9 rfl (by decide +kernel) (Nat.le_of_ble_eq_true rfl) ?_
  intro p e s m args below meth c H locs ls X hN hT hH hl
  have hx := X.1
  have hb := X.2.1
  have hown := X.2.2.2.1
  have hts := X.2.2.2.2.1
  have hl : lv_has ls 2 [(0, .ref o), (1, .int v1)] := hl
  have hB : 0 + 0 ≤ C ∧ 0 + 0 ≤ S := ⟨by omega, by omega⟩
  have eh : h = h := rfl
  unfold fc_X13_takes at hF
  refine lv_iload_n hx hb dX13_takes_0 rfl (lv_at hl 1 rfl) ?_
  refine lv_iconst (v := 1) hx hb dX13_takes_1 (by decide) ?_
  refine lv_icmp_ne (tgt := 9) hx hb dX13_takes_2 (by decide) (fun cd => ?_) (fun cd => ?_)
  · have hF := hF.1 cd
    refine lv_iconst (v := 0) hx hb dX13_takes_9 (by decide) ?_
    exact zc_iret X hH hB rfl rfl ⟨_, rfl, hF, eh⟩ dX13_takes_10
  · have hF := hF.2 cd
    refine lv_iconst (v := 1) hx hb dX13_takes_5 (by decide) ?_
    refine lv_goto (tgt := 10) hx hb dX13_takes_6 (by decide) ?_
    exact zc_iret X hH hB rfl rfl ⟨_, rfl, hF, eh⟩ dX13_takes_10
set_option maxHeartbeats 4000000 in
set_option maxRecDepth 100000 in
theorem wc_X15_takes {l : Launch} {D : va_G} {cA : Nat → ClassId} {P : Nat → Prop} {G : Nat × Nat × Nat} {o : Nat} {Q : Int32 → Prop} {h : ZH} {C S : Nat} {v1 : Int32} (hl9 : l.stackTraces = false) (hF : fc_X15_takes G o Q h v1) :
    zc_M l yX15_takes (ws_ yX15_takes cX15_takes 2 (some .boolean)) 1 D cA P G [.ref o, .int v1] h C S (fun v h' => ∃ z : Int32, v = some (.int z) ∧ Q z ∧ h = h') zc_no := by
  refine zc_ofF hl9 rfl (by decide +kernel) (Nat.le_of_ble_eq_true rfl) ?_
  intro p e s m args below meth c H locs ls X hN hT hH hl
  have hx := X.1
  have hb := X.2.1
  have hown := X.2.2.2.1
  have hts := X.2.2.2.2.1
  have hl : lv_has ls 2 [(0, .ref o), (1, .int v1)] := hl
  have hB : 0 + 0 ≤ C ∧ 0 + 0 ≤ S := ⟨by omega, by omega⟩
  have eh : h = h := rfl
  unfold fc_X15_takes at hF
  refine lv_iload_n hx hb dX15_takes_0 rfl (lv_at hl 1 rfl) ?_
  refine lv_iconst (v := 2) hx hb dX15_takes_1 (by decide) ?_
  refine lv_icmp_ne (tgt := 9) hx hb dX15_takes_2 (by decide) (fun cd => ?_) (fun cd => ?_)
  · have hF := hF.1 cd
    refine lv_iconst (v := 0) hx hb dX15_takes_9 (by decide) ?_
    exact zc_iret X hH hB rfl rfl ⟨_, rfl, hF, eh⟩ dX15_takes_10
  · have hF := hF.2 cd
    refine lv_iconst (v := 1) hx hb dX15_takes_5 (by decide) ?_
    refine lv_goto (tgt := 10) hx hb dX15_takes_6 (by decide) ?_
    exact zc_iret X hH hB rfl rfl ⟨_, rfl, hF, eh⟩ dX15_takes_10
set_option maxHeartbeats 1000000 in
theorem rv_takes_18 {p : Program} {l : Launch} {e : Env} {R : Room} {s : State} {m : MethodId} {args : Array Value} {below : List Frame} {meth : Method} {c : Code} {H : Heap} {locs : List Loc} {cells slots : Nat} {cc : ByteArray} {nL pc : Nat} {ret : Option FieldType} {own : String} {ls : Array Slot} {rest : List Value} {D : va_G} {cA : Nat → ClassId} {P : Nat → Prop} {G : Nat × Nat × Nat} {h : ZH} {C S a idx : Nat} {Q : Int32 → Prop} {v1 : Int32} (X : zc_Cx p l s m args meth c cc nL ret own D cA P G) (hH : zc_H D cA P h s H locs) (hlk : Cond.methodLink own idx ⟨"ChurchyardBook$Grave", "takes", "(I)Z"⟩ ∈ zc_gd) (hF : fv_takes_18 G a Q h v1) (hR : zc_rm R 1 11) (hsize : ls.size = nL) {st0 : List Value} (hst : st0 = ([.int v1] : List Value).reverse ++ .ref a :: rest) (hcat : (rest.map fun v => v.category).sum ≤ 8) (hdg : decode cc pc = .ok (.invokevirtual idx, 3)) (hf : cells + C ≤ R.cells ∧ slots + S ≤ R.slots) :
    vx_Run p l e R s m args below meth c H locs cells slots C S (F0 m pc ls st0) rest (zc_Q D cA P (fun v h' => ∃ z : Int32, v = some (.int z) ∧ Q z ∧ h = h') (Value.ref a :: [.int v1]).toArray) (zc_X D cA P zc_no) P := by
  unfold fv_takes_18 at hF
  have hR9 := hR
  obtain ⟨hc, hF⟩ := hF
  simp only [List.mem_cons, List.not_mem_nil, or_false] at hc
  rcases hc with hc | hc | hc | hc | hc | hc
  · have hF := hF.1 (by rw [hc]; decide)
    exact zc_rU X hH hc (by decide) rfl (owner := "ChurchyardBook$Takes") (x := ⟨"ChurchyardBook$Grave", "takes", "(I)Z"⟩) (As := [.int v1]) (wc_X10_takes X.2.2.2.2.2.2.2.1 hF) (lw_meth q1187) (zc_gdat X.2.2.2.2.2.2.2.2 _ hlk) (zc_gdat X.2.2.2.2.2.2.2.2 _ (by decide +kernel)) (zc_declA X (by decide +kernel)) (zc_selT X (owner := "ChurchyardBook$Takes") (by decide) (zc_gdat X.2.2.2.2.2.2.2.2 _ (by decide +kernel)) q1192) q1186 q115 ⟨by decide, by decide, rfl⟩ (zc_rm_le hR9 (by decide) (by decide)) rfl hsize hst hcat hdg hf
  · have hF := hF.1 (by rw [hc]; decide)
    exact zc_rU X hH hc (by decide) rfl (owner := "ChurchyardBook$Takes") (x := ⟨"ChurchyardBook$Grave", "takes", "(I)Z"⟩) (As := [.int v1]) (wc_X10_takes X.2.2.2.2.2.2.2.1 hF) (lw_meth q1187) (zc_gdat X.2.2.2.2.2.2.2.2 _ hlk) (zc_gdat X.2.2.2.2.2.2.2.2 _ (by decide +kernel)) (zc_declA X (by decide +kernel)) (zc_selT X (owner := "ChurchyardBook$Takes") (by decide) (zc_gdat X.2.2.2.2.2.2.2.2 _ (by decide +kernel)) q1185) q1186 q115 ⟨by decide, by decide, rfl⟩ (zc_rm_le hR9 (by decide) (by decide)) rfl hsize hst hcat hdg hf
  · have hF := hF.1 (by rw [hc]; decide)
    exact zc_rU X hH hc (by decide) rfl (owner := "ChurchyardBook$Takes") (x := ⟨"ChurchyardBook$Grave", "takes", "(I)Z"⟩) (As := [.int v1]) (wc_X10_takes X.2.2.2.2.2.2.2.1 hF) (lw_meth q1187) (zc_gdat X.2.2.2.2.2.2.2.2 _ hlk) (zc_gdat X.2.2.2.2.2.2.2.2 _ (by decide +kernel)) (zc_declA X (by decide +kernel)) (zc_selT X (owner := "ChurchyardBook$Takes") (by decide) (zc_gdat X.2.2.2.2.2.2.2.2 _ (by decide +kernel)) q1188) q1186 q115 ⟨by decide, by decide, rfl⟩ (zc_rm_le hR9 (by decide) (by decide)) rfl hsize hst hcat hdg hf
  · have hF := hF.2.1 (by rw [hc]; decide)
    exact zc_rU X hH hc (by decide) rfl (owner := "ChurchyardBook$Takes") (x := ⟨"ChurchyardBook$Grave", "takes", "(I)Z"⟩) (As := [.int v1]) (wc_X13_takes X.2.2.2.2.2.2.2.1 hF) (lw_meth q1191) (zc_gdat X.2.2.2.2.2.2.2.2 _ hlk) (zc_gdat X.2.2.2.2.2.2.2.2 _ (by decide +kernel)) (zc_declA X (by decide +kernel)) (zc_selT X (owner := "ChurchyardBook$Takes") (by decide) (zc_gdat X.2.2.2.2.2.2.2.2 _ (by decide +kernel)) q1193) q1190 q118 ⟨by decide, by decide, rfl⟩ (zc_rm_le hR9 (by decide) (by decide)) rfl hsize hst hcat hdg hf
  · have hF := hF.2.1 (by rw [hc]; decide)
    exact zc_rU X hH hc (by decide) rfl (owner := "ChurchyardBook$Takes") (x := ⟨"ChurchyardBook$Grave", "takes", "(I)Z"⟩) (As := [.int v1]) (wc_X13_takes X.2.2.2.2.2.2.2.1 hF) (lw_meth q1191) (zc_gdat X.2.2.2.2.2.2.2.2 _ hlk) (zc_gdat X.2.2.2.2.2.2.2.2 _ (by decide +kernel)) (zc_declA X (by decide +kernel)) (zc_selT X (owner := "ChurchyardBook$Takes") (by decide) (zc_gdat X.2.2.2.2.2.2.2.2 _ (by decide +kernel)) q1189) q1190 q118 ⟨by decide, by decide, rfl⟩ (zc_rm_le hR9 (by decide) (by decide)) rfl hsize hst hcat hdg hf
  · have hF := hF.2.2 (by rw [hc]; decide)
    exact zc_rU X hH hc (by decide) rfl (owner := "ChurchyardBook$Takes") (x := ⟨"ChurchyardBook$Grave", "takes", "(I)Z"⟩) (As := [.int v1]) (wc_X15_takes X.2.2.2.2.2.2.2.1 hF) (lw_meth q1184) (zc_gdat X.2.2.2.2.2.2.2.2 _ hlk) (zc_gdat X.2.2.2.2.2.2.2.2 _ (by decide +kernel)) (zc_declA X (by decide +kernel)) (zc_selT X (owner := "ChurchyardBook$Takes") (by decide) (zc_gdat X.2.2.2.2.2.2.2.2 _ (by decide +kernel)) q1182) q1183 q120 ⟨by decide, by decide, rfl⟩ (zc_rm_le hR9 (by decide) (by decide)) rfl hsize hst hcat hdg hf
