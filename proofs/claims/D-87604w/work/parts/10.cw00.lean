/-! THE COMPONENT SIDE: the walks, printed by gen_comp.py -/
set_option maxRecDepth 100000
set_option maxHeartbeats 4000000 in
set_option maxRecDepth 100000 in
theorem wc_X2_init {l : Launch} {D : va_G} {cA : Nat → ClassId} {P : Nat → Prop} {G : Nat × Nat × Nat} {o : Nat} {Q : Prop} {h : ZH} {C S : Nat} (hl9 : l.stackTraces = false) (hF : fc_X2_init G o Q h) :
    zc_M l yX2_init (ws_ yX2_init cX2_init 1 none) 1 D cA P G [.ref o] h C S (fun v h' => v = none ∧ Q ∧ h = h') zc_no := by
  refine zc_ofF hl9 rfl (by decide +kernel) (Nat.le_of_ble_eq_true rfl) ?_
  intro p e s m args below meth c H locs ls X hN hT hH hl
  have hx := X.1
  have hb := X.2.1
  have hown := X.2.2.2.1
  have hts := X.2.2.2.2.1
  have hl : lv_has ls 1 [(0, .ref o)] := hl
  have hB : 0 + 0 ≤ C ∧ 0 + 0 ≤ S := ⟨by omega, by omega⟩
  have eh : h = h := rfl
  unfold fc_X2_init at hF
  refine lv_aload_n hx hb dX2_init_0 rfl (lv_at hl 0 rfl) ?_
  refine zc_objI X hl.1 q140 ⟨Nat.le_of_ble_eq_true rfl, Nat.le_of_ble_eq_true rfl⟩ (Nat.le_of_ble_eq_true rfl) dX2_init_1 ?_
  exact zc_vret X hH hB rfl ⟨rfl, hF, eh⟩ dX2_init_4
set_option maxHeartbeats 4000000 in
set_option maxRecDepth 100000 in
theorem wc_X3_init {l : Launch} {D : va_G} {cA : Nat → ClassId} {P : Nat → Prop} {G : Nat × Nat × Nat} {o : Nat} {Q : Prop} {h : ZH} {C S : Nat} (hl9 : l.stackTraces = false) (hF : fc_X3_init G o Q h) :
    zc_M l yX3_init (ws_ yX3_init cX3_init 1 none) 2 D cA P G [.ref o] h C S (fun v h' => v = none ∧ Q ∧ h = h') zc_no := by
  refine zc_ofF hl9 rfl (by decide +kernel) (Nat.le_of_ble_eq_true rfl) ?_
  intro p e s m args below meth c H locs ls X hN hT hH hl
  have hx := X.1
  have hb := X.2.1
  have hown := X.2.2.2.1
  have hts := X.2.2.2.2.1
  have hl : lv_has ls 1 [(0, .ref o)] := hl
  have hB : 0 + 0 ≤ C ∧ 0 + 0 ≤ S := ⟨by omega, by omega⟩
  have eh : h = h := rfl
  unfold fc_X3_init at hF
  refine lv_aload_n hx hb dX3_init_0 rfl (lv_at hl 0 rfl) ?_
  refine zc_call (c1 := 0) (s1 := 0) (rest := []) hH hB (Nat.zero_le _) (Nat.zero_le _) (fun hf => zc_rIN X hH (As := []) (host := "ChurchyardBook") (wc_X2_init X.2.2.2.2.2.2.2.1 hF) (lw_meth q139) (by decide +kernel) q88 q138 rfl ⟨by decide, by decide, rfl⟩ ⟨Nat.le_of_ble_eq_true rfl, Nat.le_of_ble_eq_true rfl, Nat.le_of_ble_eq_true rfl⟩ rfl hl.1 (st0 := [.ref o]) rfl (Nat.le_of_ble_eq_true rfl) dX3_init_1 hf) (fun E9 ce9 q9 h9 H locs hx9 => False.elim hx9) (fun v9 h9 H locs hv9 hH hB => ?_)
  obtain ⟨rfl, hF, rfl⟩ := hv9
  exact zc_vret X hH hB rfl ⟨rfl, hF, eh⟩ dX3_init_4
set_option maxHeartbeats 4000000 in
set_option maxRecDepth 100000 in
theorem wc_X4_init {l : Launch} {D : va_G} {cA : Nat → ClassId} {P : Nat → Prop} {G : Nat × Nat × Nat} {o : Nat} {Q : Prop} {h : ZH} {C S : Nat} (hl9 : l.stackTraces = false) (hF : fc_X4_init G o Q h) :
    zc_M l yX4_init (ws_ yX4_init cX4_init 1 none) 2 D cA P G [.ref o] h C S (fun v h' => v = none ∧ Q ∧ h = h') zc_no := by
  refine zc_ofF hl9 rfl (by decide +kernel) (Nat.le_of_ble_eq_true rfl) ?_
  intro p e s m args below meth c H locs ls X hN hT hH hl
  have hx := X.1
  have hb := X.2.1
  have hown := X.2.2.2.1
  have hts := X.2.2.2.2.1
  have hl : lv_has ls 1 [(0, .ref o)] := hl
  have hB : 0 + 0 ≤ C ∧ 0 + 0 ≤ S := ⟨by omega, by omega⟩
  have eh : h = h := rfl
  unfold fc_X4_init at hF
  refine lv_aload_n hx hb dX4_init_0 rfl (lv_at hl 0 rfl) ?_
  refine zc_call (c1 := 0) (s1 := 0) (rest := []) hH hB (Nat.zero_le _) (Nat.zero_le _) (fun hf => zc_rIN X hH (As := []) (host := "ChurchyardBook") (wc_X2_init X.2.2.2.2.2.2.2.1 hF) (lw_meth q139) (by decide +kernel) q88 q138 rfl ⟨by decide, by decide, rfl⟩ ⟨Nat.le_of_ble_eq_true rfl, Nat.le_of_ble_eq_true rfl, Nat.le_of_ble_eq_true rfl⟩ rfl hl.1 (st0 := [.ref o]) rfl (Nat.le_of_ble_eq_true rfl) dX4_init_1 hf) (fun E9 ce9 q9 h9 H locs hx9 => False.elim hx9) (fun v9 h9 H locs hv9 hH hB => ?_)
  obtain ⟨rfl, hF, rfl⟩ := hv9
  exact zc_vret X hH hB rfl ⟨rfl, hF, eh⟩ dX4_init_4
set_option maxHeartbeats 4000000 in
set_option maxRecDepth 100000 in
theorem wc_J0_init {l : Launch} {D : va_G} {cA : Nat → ClassId} {P : Nat → Prop} {G : Nat × Nat × Nat} {o : Nat} {Q : Prop} {h : ZH} {C S : Nat} (hl9 : l.stackTraces = false) (hF : fc_J0_init G o Q h) :
    zc_M l yJ0_init (ws_ yJ0_init cJ0_init 1 none) 1 D cA P G [.ref o] h C S (fun v h' => v = none ∧ Q ∧ h = h') zc_no := by
  refine zc_ofF hl9 rfl (by decide +kernel) (Nat.le_of_ble_eq_true rfl) ?_
  intro p e s m args below meth c H locs ls X hN hT hH hl
  have hx := X.1
  have hb := X.2.1
  have hown := X.2.2.2.1
  have hts := X.2.2.2.2.1
  have hl : lv_has ls 1 [(0, .ref o)] := hl
  have hB : 0 + 0 ≤ C ∧ 0 + 0 ≤ S := ⟨by omega, by omega⟩
  have eh : h = h := rfl
  unfold fc_J0_init at hF
  refine lv_aload_n hx hb dJ0_init_0 rfl (lv_at hl 0 rfl) ?_
  refine zc_objI X hl.1 q166 ⟨Nat.le_of_ble_eq_true rfl, Nat.le_of_ble_eq_true rfl⟩ (Nat.le_of_ble_eq_true rfl) dJ0_init_1 ?_
  exact zc_vret X hH hB rfl ⟨rfl, hF, eh⟩ dJ0_init_4
set_option maxHeartbeats 4000000 in
set_option maxRecDepth 100000 in
theorem wc_J1_init {l : Launch} {D : va_G} {cA : Nat → ClassId} {P : Nat → Prop} {G : Nat × Nat × Nat} {o : Nat} {Q : ZH → Prop} {h : ZH} {C S : Nat} (hl9 : l.stackTraces = false) (hF : fc_J1_init G o Q h) :
    zc_M l yJ1_init (ws_ yJ1_init cJ1_init 1 none) 2 D cA P G [.ref o] h C S (fun v h' => v = none ∧ Q h') zc_no := by
  refine zc_ofF hl9 rfl (by decide +kernel) (Nat.le_of_ble_eq_true rfl) ?_
  intro p e s m args below meth c H locs ls X hN hT hH hl
  have hx := X.1
  have hb := X.2.1
  have hown := X.2.2.2.1
  have hts := X.2.2.2.2.1
  have hl : lv_has ls 1 [(0, .ref o)] := hl
  have hB : 0 + 0 ≤ C ∧ 0 + 0 ≤ S := ⟨by omega, by omega⟩
  unfold fc_J1_init at hF
  refine lv_aload_n hx hb dJ1_init_0 rfl (lv_at hl 0 rfl) ?_
  refine zc_call (c1 := 0) (s1 := 0) (rest := []) hH hB (Nat.zero_le _) (Nat.zero_le _) (fun hf => zc_rI X hH (As := []) (wc_J0_init X.2.2.2.2.2.2.2.1 hF) (lw_meth q165) q163 q92 q164 rfl ⟨by decide, by decide, rfl⟩ ⟨Nat.le_of_ble_eq_true rfl, Nat.le_of_ble_eq_true rfl, Nat.le_of_ble_eq_true rfl⟩ rfl hl.1 (st0 := [.ref o]) rfl (Nat.le_of_ble_eq_true rfl) dJ1_init_1 hf) (fun E9 ce9 q9 h9 H locs hx9 => False.elim hx9) (fun v9 h9 H locs hv9 hH hB => ?_)
  obtain ⟨rfl, hF, rfl⟩ := hv9
  refine lv_aload_n hx hb dJ1_init_4 rfl (lv_at hl 0 rfl) ?_
  refine lv_iconst (v := 0) hx hb dJ1_init_5 (by decide) ?_
  obtain ⟨hc, hF⟩ := hF
  refine zc_puti X hH hc 0 300 ("java/util/AbstractList", "modCount", "I", false) (by decide +kernel) rfl q173 (Or.inl rfl) (ty := .int) (by decide +kernel) rfl rfl (Or.inl rfl) dJ1_init_6 (fun h1 H locs eh1 hH => ?_)
  have hF := hF h1 eh1
  exact zc_vret X hH hB rfl ⟨rfl, hF⟩ dJ1_init_9
set_option maxHeartbeats 4000000 in
set_option maxRecDepth 100000 in
theorem wc_J2_init {l : Launch} {D : va_G} {cA : Nat → ClassId} {P : Nat → Prop} {G : Nat × Nat × Nat} {o : Nat} {Q : ZH → Prop} {h : ZH} {C S : Nat} {v1 : Int32} (hl9 : l.stackTraces = false) (hF : fc_J2_init G o Q h C S v1) :
    zc_M l yJ2_init (ws_ yJ2_init cJ2_init 2 none) 3 D cA P G [.ref o, .int v1] h C S (fun v h' => v = none ∧ Q h') zc_no := by
  refine zc_ofF hl9 rfl (by decide +kernel) (Nat.le_of_ble_eq_true rfl) ?_
  intro p e s m args below meth c H locs ls X hN hT hH hl
  have hx := X.1
  have hb := X.2.1
  have hown := X.2.2.2.1
  have hts := X.2.2.2.2.1
  have hl : lv_has ls 2 [(0, .ref o), (1, .int v1)] := hl
  have hB : 0 + C ≤ C ∧ 0 + S ≤ S := ⟨by omega, by omega⟩
  unfold fc_J2_init at hF
  refine lv_aload_n hx hb dJ2_init_0 rfl (lv_at hl 0 rfl) ?_
  refine zc_call (c1 := 0) (s1 := 0) (rest := []) hH hB (Nat.zero_le _) (Nat.zero_le _) (fun hf => zc_rI X hH (As := []) (wc_J1_init X.2.2.2.2.2.2.2.1 hF) (lw_meth q162) q160 q93 q161 rfl ⟨by decide, by decide, rfl⟩ ⟨Nat.le_of_ble_eq_true rfl, Nat.le_of_ble_eq_true rfl, Nat.le_of_ble_eq_true rfl⟩ rfl hl.1 (st0 := [.ref o]) rfl (Nat.le_of_ble_eq_true rfl) dJ2_init_1 hf) (fun E9 ce9 q9 h9 H locs hx9 => False.elim hx9) (fun v9 h1 H locs hv9 hH hB => ?_)
  obtain ⟨rfl, hF⟩ := hv9
  refine lv_iload_n hx hb dJ2_init_4 rfl (lv_at hl 1 rfl) ?_
  refine lv_if_le (tgt := 19) hx hb dJ2_init_5 (by decide) (fun cd => ?_) (fun cd => ?_)
  · have hF := hF.1 cd
    refine lv_iload_n hx hb dJ2_init_19 rfl (lv_at hl 1 rfl) ?_
    refine lv_if_ne (tgt := 33) hx hb dJ2_init_20 (by decide) (fun cd => ?_) (fun cd => ?_)
    · have hF := hF.1 cd
      exact False.elim hF
    · have hF := hF.2 cd
      refine lv_aload_n hx hb dJ2_init_23 rfl (lv_at hl 0 rfl) ?_
      refine zc_gets X hH rfl true q169 dJ2_init_24 ?_
      obtain ⟨hc, hF⟩ := hF
      refine zc_putr X hH hc 1 301 ("java/util/ArrayList", "elementData", "[Ljava/lang/Object;", false) (by decide +kernel) rfl q171 (Or.inl rfl) (x := (some G.1)) rfl (ty := (.array (.object "java/lang/Object"))) (by decide +kernel) rfl (Or.inl rfl) dJ2_init_27 (fun h2 H locs eh2 hH => ?_)
      have hF := hF h2 eh2
      refine lv_goto (tgt := 60) hx hb dJ2_init_30 (by decide) ?_
      exact zc_vret X hH hB rfl ⟨rfl, hF⟩ dJ2_init_60
  · have hF := hF.2 cd
    refine lv_aload_n hx hb dJ2_init_8 rfl (lv_at hl 0 rfl) ?_
    refine lv_iload_n hx hb dJ2_init_9 rfl (lv_at hl 1 rfl) ?_
    obtain ⟨hI, hF⟩ := hF
    obtain ⟨hJ, hF⟩ := hF
    obtain ⟨hc1, hF⟩ := hF
    obtain ⟨hs1, hF⟩ := hF
    refine zc_newq X hH hB 2 "java/lang/Object" ⟨by decide, by decide, rfl⟩ (by simp) q167 hI hJ hc1 hs1 dJ2_init_10 (fun a3 h4 H hza3 eh4 hH hB => ?_)
    have hF := hF a3 h4 hza3 eh4
    obtain ⟨hc, hF⟩ := hF
    refine zc_putr X hH hc 1 301 ("java/util/ArrayList", "elementData", "[Ljava/lang/Object;", false) (by decide +kernel) rfl q171 (Or.inl rfl) (x := (some a3)) rfl (ty := (.array (.object "java/lang/Object"))) (by decide +kernel) rfl (Or.inl rfl) dJ2_init_13 (fun h5 H locs eh5 hH => ?_)
    have hF := hF h5 eh5
    refine lv_goto (tgt := 60) hx hb dJ2_init_16 (by decide) ?_
    exact zc_vret X hH hB rfl ⟨rfl, hF⟩ dJ2_init_60
set_option maxHeartbeats 4000000 in
set_option maxRecDepth 100000 in
theorem wc_J2_init_2 {l : Launch} {D : va_G} {cA : Nat → ClassId} {P : Nat → Prop} {G : Nat × Nat × Nat} {o : Nat} {Q : ZH → Prop} {h : ZH} {C S : Nat} (hl9 : l.stackTraces = false) (hF : fc_J2_init_2 G o Q h) :
    zc_M l yJ2_init_2 (ws_ yJ2_init_2 cJ2_init_2 1 none) 3 D cA P G [.ref o] h C S (fun v h' => v = none ∧ Q h') zc_no := by
  refine zc_ofF hl9 rfl (by decide +kernel) (Nat.le_of_ble_eq_true rfl) ?_
  intro p e s m args below meth c H locs ls X hN hT hH hl
  have hx := X.1
  have hb := X.2.1
  have hown := X.2.2.2.1
  have hts := X.2.2.2.2.1
  have hl : lv_has ls 1 [(0, .ref o)] := hl
  have hB : 0 + 0 ≤ C ∧ 0 + 0 ≤ S := ⟨by omega, by omega⟩
  unfold fc_J2_init_2 at hF
  refine lv_aload_n hx hb dJ2_init_2_0 rfl (lv_at hl 0 rfl) ?_
  refine zc_call (c1 := 0) (s1 := 0) (rest := []) hH hB (Nat.zero_le _) (Nat.zero_le _) (fun hf => zc_rI X hH (As := []) (wc_J1_init X.2.2.2.2.2.2.2.1 hF) (lw_meth q162) q160 q93 q161 rfl ⟨by decide, by decide, rfl⟩ ⟨Nat.le_of_ble_eq_true rfl, Nat.le_of_ble_eq_true rfl, Nat.le_of_ble_eq_true rfl⟩ rfl hl.1 (st0 := [.ref o]) rfl (Nat.le_of_ble_eq_true rfl) dJ2_init_2_1 hf) (fun E9 ce9 q9 h9 H locs hx9 => False.elim hx9) (fun v9 h1 H locs hv9 hH hB => ?_)
  obtain ⟨rfl, hF⟩ := hv9
  refine lv_aload_n hx hb dJ2_init_2_4 rfl (lv_at hl 0 rfl) ?_
  refine zc_gets X hH rfl false q186 dJ2_init_2_5 ?_
  obtain ⟨hc, hF⟩ := hF
  refine zc_putr X hH hc 1 301 ("java/util/ArrayList", "elementData", "[Ljava/lang/Object;", false) (by decide +kernel) rfl q171 (Or.inl rfl) (x := (some G.2.1)) rfl (ty := (.array (.object "java/lang/Object"))) (by decide +kernel) rfl (Or.inl rfl) dJ2_init_2_8 (fun h2 H locs eh2 hH => ?_)
  have hF := hF h2 eh2
  exact zc_vret X hH hB rfl ⟨rfl, hF⟩ dJ2_init_2_11
set_option maxHeartbeats 4000000 in
set_option maxRecDepth 100000 in
theorem wc_X5_init {l : Launch} {D : va_G} {cA : Nat → ClassId} {P : Nat → Prop} {G : Nat × Nat × Nat} {o : Nat} {Q : ZH → Prop} {h : ZH} {C S : Nat} {q1 : Option Nat} (hl9 : l.stackTraces = false) (hF : fc_X5_init G o Q h C S q1) :
    zc_M l yX5_init (ws_ yX5_init cX5_init 2 none) 4 D cA P G [.ref o, va_rf q1] h C S (fun v h' => v = none ∧ Q h') zc_no := by
  refine zc_ofF hl9 rfl (by decide +kernel) (zc_slle (by simp [zc_k1, zc_kI, zc_kR]) (Nat.le_of_ble_eq_true rfl)) ?_
  intro p e s m args below meth c H locs ls X hN hT hH hl
  have hx := X.1
  have hb := X.2.1
  have hown := X.2.2.2.1
  have hts := X.2.2.2.2.1
  have hl : lv_has ls 2 [(0, .ref o), (1, va_rf q1)] := by
    have h9 := hl
    rw [zc_ags _ (by simp [zc_k1, zc_kI, zc_kR]) 0] at h9
    exact h9
  have hB : 0 + C ≤ C ∧ 0 + S ≤ S := ⟨by omega, by omega⟩
  unfold fc_X5_init at hF
  refine lv_aload_n hx hb dX5_init_0 rfl (lv_at hl 0 rfl) ?_
  refine zq_aload_n hx hb dX5_init_1 rfl (lv_at hl 1 rfl) ?_
  obtain ⟨hc, hF⟩ := hF
  refine zc_putr X hH hc 5 205 ("ChurchyardBook$Book", "this$0", "LChurchyardBook;", true) (by decide +kernel) rfl q198 (Or.inl rfl) (x := q1) rfl (ty := (.object "ChurchyardBook")) (by decide +kernel) rfl (Or.inr ⟨rfl, hN, rfl⟩) dX5_init_2 (fun h1 H locs eh1 hH => ?_)
  have hF := hF h1 eh1
  refine lv_aload_n hx hb dX5_init_5 rfl (lv_at hl 0 rfl) ?_
  refine zc_objI X hl.1 q154 ⟨Nat.le_of_ble_eq_true rfl, Nat.le_of_ble_eq_true rfl⟩ (Nat.le_of_ble_eq_true rfl) dX5_init_6 ?_
  refine lv_aload_n hx hb dX5_init_9 rfl (lv_at hl 0 rfl) ?_
  obtain ⟨hc1, hF⟩ := hF
  obtain ⟨hs1, hF⟩ := hF
  refine zc_new X hH hB (ci := 4) rfl (n := 3) q155 q156 q94 (by decide) hc1 hs1 dX5_init_10 (fun a2 h3 H hza2 eh3 hH hB => ?_)
  have hF := hF a2 h3 hza2 eh3
  refine lv_dup hx hb dX5_init_13 rfl ?_
  refine lv_iconst (v := 2) hx hb dX5_init_14 (by decide) ?_
  obtain ⟨c4, s5, hc1, hs1, hF⟩ := hF
  refine zc_call (c1 := c4) (s1 := s5) (rest := [.ref a2, .ref o]) hH hB hc1 hs1 (fun hf => zc_rI X hH (As := [.int 2]) (wc_J2_init X.2.2.2.2.2.2.2.1 hF) (lw_meth q159) q157 q94 q158 rfl ⟨by decide, by decide, rfl⟩ ⟨Nat.le_of_ble_eq_true rfl, Nat.le_of_ble_eq_true rfl, Nat.le_of_ble_eq_true rfl⟩ rfl hl.1 (st0 := [.int 2, .ref a2, .ref a2, .ref o]) rfl (Nat.le_of_ble_eq_true rfl) dX5_init_15 hf) (fun E9 ce9 q9 h9 H locs hx9 => False.elim hx9) (fun v9 h6 H locs hv9 hH hB => ?_)
  obtain ⟨rfl, hF⟩ := hv9
  obtain ⟨hc, hF⟩ := hF
  refine zc_putr X hH hc 0 200 ("ChurchyardBook$Book", "fields", "Ljava/util/ArrayList;", true) (by decide +kernel) rfl q188 (Or.inl rfl) (x := (some a2)) rfl (ty := (.object "java/util/ArrayList")) (by decide +kernel) rfl (Or.inr ⟨rfl, hN, rfl⟩) dX5_init_18 (fun h7 H locs eh7 hH => ?_)
  have hF := hF h7 eh7
  refine lv_aload_n hx hb dX5_init_21 rfl (lv_at hl 0 rfl) ?_
  obtain ⟨hc1, hF⟩ := hF
  obtain ⟨hs1, hF⟩ := hF
  refine zc_new X hH hB (ci := 4) rfl (n := 3) q155 q156 q94 (by decide) hc1 hs1 dX5_init_22 (fun a8 h9 H hza8 eh9 hH hB => ?_)
  have hF := hF a8 h9 hza8 eh9
  refine lv_dup hx hb dX5_init_25 rfl ?_
  refine zc_call (c1 := 0) (s1 := 0) (rest := [.ref a8, .ref o]) hH hB (Nat.zero_le _) (Nat.zero_le _) (fun hf => zc_rI X hH (As := []) (wc_J2_init_2 X.2.2.2.2.2.2.2.1 hF) (lw_meth q185) q183 q94 q184 rfl ⟨by decide, by decide, rfl⟩ ⟨Nat.le_of_ble_eq_true rfl, Nat.le_of_ble_eq_true rfl, Nat.le_of_ble_eq_true rfl⟩ rfl hl.1 (st0 := [.ref a8, .ref a8, .ref o]) rfl (Nat.le_of_ble_eq_true rfl) dX5_init_26 hf) (fun E9 ce9 q9 h9 H locs hx9 => False.elim hx9) (fun v9 h10 H locs hv9 hH hB => ?_)
  obtain ⟨rfl, hF⟩ := hv9
  obtain ⟨hc, hF⟩ := hF
  refine zc_putr X hH hc 1 201 ("ChurchyardBook$Book", "graves", "Ljava/util/ArrayList;", true) (by decide +kernel) rfl q190 (Or.inl rfl) (x := (some a8)) rfl (ty := (.object "java/util/ArrayList")) (by decide +kernel) rfl (Or.inr ⟨rfl, hN, rfl⟩) dX5_init_29 (fun h11 H locs eh11 hH => ?_)
  have hF := hF h11 eh11
  refine lv_aload_n hx hb dX5_init_32 rfl (lv_at hl 0 rfl) ?_
  obtain ⟨hc1, hF⟩ := hF
  obtain ⟨hs1, hF⟩ := hF
  refine zc_new X hH hB (ci := 4) rfl (n := 3) q155 q156 q94 (by decide) hc1 hs1 dX5_init_33 (fun a12 h13 H hza12 eh13 hH hB => ?_)
  have hF := hF a12 h13 hza12 eh13
  refine lv_dup hx hb dX5_init_36 rfl ?_
  refine zc_call (c1 := 0) (s1 := 0) (rest := [.ref a12, .ref o]) hH hB (Nat.zero_le _) (Nat.zero_le _) (fun hf => zc_rI X hH (As := []) (wc_J2_init_2 X.2.2.2.2.2.2.2.1 hF) (lw_meth q185) q183 q94 q184 rfl ⟨by decide, by decide, rfl⟩ ⟨Nat.le_of_ble_eq_true rfl, Nat.le_of_ble_eq_true rfl, Nat.le_of_ble_eq_true rfl⟩ rfl hl.1 (st0 := [.ref a12, .ref a12, .ref o]) rfl (Nat.le_of_ble_eq_true rfl) dX5_init_37 hf) (fun E9 ce9 q9 h9 H locs hx9 => False.elim hx9) (fun v9 h14 H locs hv9 hH hB => ?_)
  obtain ⟨rfl, hF⟩ := hv9
  obtain ⟨hc, hF⟩ := hF
  refine zc_putr X hH hc 2 202 ("ChurchyardBook$Book", "persons", "Ljava/util/ArrayList;", true) (by decide +kernel) rfl q192 (Or.inl rfl) (x := (some a12)) rfl (ty := (.object "java/util/ArrayList")) (by decide +kernel) rfl (Or.inr ⟨rfl, hN, rfl⟩) dX5_init_40 (fun h15 H locs eh15 hH => ?_)
  have hF := hF h15 eh15
  exact zc_vret X hH hB rfl ⟨rfl, hF⟩ dX5_init_43
set_option maxHeartbeats 4000000 in
set_option maxRecDepth 100000 in
theorem wc_X1_init {l : Launch} {D : va_G} {cA : Nat → ClassId} {P : Nat → Prop} {G : Nat × Nat × Nat} {o : Nat} {Q : ZH → Prop} {h : ZH} {C S : Nat} (hl9 : l.stackTraces = false) (hF : fc_X1_init G o Q h C S) :
    zc_M l yX1_init (ws_ yX1_init cX1_init 1 none) 5 D cA P G [.ref o] h C S (fun v h' => v = none ∧ Q h') zc_no := by
  refine zc_ofF hl9 rfl (by decide +kernel) (Nat.le_of_ble_eq_true rfl) ?_
  intro p e s m args below meth c H locs ls X hN hT hH hl
  have hx := X.1
  have hb := X.2.1
  have hown := X.2.2.2.1
  have hts := X.2.2.2.2.1
  have hl : lv_has ls 1 [(0, .ref o)] := hl
  have hB : 0 + C ≤ C ∧ 0 + S ≤ S := ⟨by omega, by omega⟩
  unfold fc_X1_init at hF
  refine lv_aload_n hx hb dX1_init_0 rfl (lv_at hl 0 rfl) ?_
  refine zc_objI X hl.1 q129 ⟨Nat.le_of_ble_eq_true rfl, Nat.le_of_ble_eq_true rfl⟩ (Nat.le_of_ble_eq_true rfl) dX1_init_1 ?_
  refine lv_aload_n hx hb dX1_init_4 rfl (lv_at hl 0 rfl) ?_
  obtain ⟨hc1, hF⟩ := hF
  obtain ⟨hs1, hF⟩ := hF
  refine zc_new X hH hB (ci := 1) rfl (n := 0) q132 q133 q89 (by decide) hc1 hs1 dX1_init_5 (fun a1 h2 H hza1 eh2 hH hB => ?_)
  have hF := hF a1 h2 hza1 eh2
  refine lv_dup hx hb dX1_init_8 rfl ?_
  refine zc_call (c1 := 0) (s1 := 0) (rest := [.ref a1, .ref o]) hH hB (Nat.zero_le _) (Nat.zero_le _) (fun hf => zc_rIN X hH (As := []) (host := "ChurchyardBook") (wc_X3_init X.2.2.2.2.2.2.2.1 hF) (lw_meth q136) (by decide +kernel) q89 q135 rfl ⟨by decide, by decide, rfl⟩ ⟨Nat.le_of_ble_eq_true rfl, Nat.le_of_ble_eq_true rfl, Nat.le_of_ble_eq_true rfl⟩ rfl hl.1 (st0 := [.ref a1, .ref a1, .ref o]) rfl (Nat.le_of_ble_eq_true rfl) dX1_init_9 hf) (fun E9 ce9 q9 h9 H locs hx9 => False.elim hx9) (fun v9 h9 H locs hv9 hH hB => ?_)
  obtain ⟨rfl, hF, rfl⟩ := hv9
  obtain ⟨hc, hF⟩ := hF
  refine zc_putr X hH hc 0 100 ("ChurchyardBook", "tree", "LChurchyardBook$Tree;", true) (by decide +kernel) rfl q212 (Or.inl rfl) (x := (some a1)) rfl (ty := (.object "ChurchyardBook$Tree")) (by decide +kernel) rfl (Or.inr ⟨rfl, hN, rfl⟩) dX1_init_12 (fun h3 H locs eh3 hH => ?_)
  have hF := hF h3 eh3
  refine lv_aload_n hx hb dX1_init_15 rfl (lv_at hl 0 rfl) ?_
  obtain ⟨hc1, hF⟩ := hF
  obtain ⟨hs1, hF⟩ := hF
  refine zc_new X hH hB (ci := 2) rfl (n := 0) q142 q143 q90 (by decide) hc1 hs1 dX1_init_16 (fun a4 h5 H hza4 eh5 hH hB => ?_)
  have hF := hF a4 h5 hza4 eh5
  refine lv_dup hx hb dX1_init_19 rfl ?_
  refine zc_call (c1 := 0) (s1 := 0) (rest := [.ref a4, .ref o]) hH hB (Nat.zero_le _) (Nat.zero_le _) (fun hf => zc_rIN X hH (As := []) (host := "ChurchyardBook") (wc_X4_init X.2.2.2.2.2.2.2.1 hF) (lw_meth q146) (by decide +kernel) q90 q145 rfl ⟨by decide, by decide, rfl⟩ ⟨Nat.le_of_ble_eq_true rfl, Nat.le_of_ble_eq_true rfl, Nat.le_of_ble_eq_true rfl⟩ rfl hl.1 (st0 := [.ref a4, .ref a4, .ref o]) rfl (Nat.le_of_ble_eq_true rfl) dX1_init_20 hf) (fun E9 ce9 q9 h9 H locs hx9 => False.elim hx9) (fun v9 h9 H locs hv9 hH hB => ?_)
  obtain ⟨rfl, hF, rfl⟩ := hv9
  obtain ⟨hc, hF⟩ := hF
  refine zc_putr X hH hc 1 101 ("ChurchyardBook", "way", "LChurchyardBook$Way;", true) (by decide +kernel) rfl q214 (Or.inl rfl) (x := (some a4)) rfl (ty := (.object "ChurchyardBook$Way")) (by decide +kernel) rfl (Or.inr ⟨rfl, hN, rfl⟩) dX1_init_23 (fun h6 H locs eh6 hH => ?_)
  have hF := hF h6 eh6
  refine lv_aload_n hx hb dX1_init_26 rfl (lv_at hl 0 rfl) ?_
  obtain ⟨hc1, hF⟩ := hF
  obtain ⟨hs1, hF⟩ := hF
  refine zc_new X hH hB (ci := 3) rfl (n := 6) q149 q150 q91 (by decide) hc1 hs1 dX1_init_27 (fun a7 h8 H hza7 eh8 hH hB => ?_)
  have hF := hF a7 h8 hza7 eh8
  refine lv_dup hx hb dX1_init_30 rfl ?_
  refine lv_aload_n hx hb dX1_init_31 rfl (lv_at hl 0 rfl) ?_
  obtain ⟨c9, s10, hc1, hs1, hF⟩ := hF
  refine zc_call (c1 := c9) (s1 := s10) (rest := [.ref a7, .ref o]) hH hB hc1 hs1 (fun hf => zc_rIN X hH (As := [.ref o]) (host := "ChurchyardBook") (wc_X5_init X.2.2.2.2.2.2.2.1 hF) (lw_meth q153) (by decide +kernel) q91 q152 rfl ⟨by decide, by decide, rfl⟩ ⟨Nat.le_of_ble_eq_true rfl, Nat.le_of_ble_eq_true rfl, Nat.le_of_ble_eq_true rfl⟩ rfl hl.1 (st0 := [.ref o, .ref a7, .ref a7, .ref o]) rfl (Nat.le_of_ble_eq_true rfl) dX1_init_32 hf) (fun E9 ce9 q9 h9 H locs hx9 => False.elim hx9) (fun v9 h11 H locs hv9 hH hB => ?_)
  obtain ⟨rfl, hF⟩ := hv9
  obtain ⟨hc, hF⟩ := hF
  refine zc_putr X hH hc 2 102 ("ChurchyardBook", "book", "LChurchyardBook$Book;", false) (by decide +kernel) rfl q216 (Or.inl rfl) (x := (some a7)) rfl (ty := (.object "ChurchyardBook$Book")) (by decide +kernel) rfl (Or.inl rfl) dX1_init_35 (fun h12 H locs eh12 hH => ?_)
  have hF := hF h12 eh12
  refine lv_aload_n hx hb dX1_init_38 rfl (lv_at hl 0 rfl) ?_
  refine lv_sipush (v := 2400) hx hb dX1_init_39 (by decide) ?_
  obtain ⟨hI, hF⟩ := hF
  obtain ⟨hJ, hF⟩ := hF
  obtain ⟨hc1, hF⟩ := hF
  obtain ⟨hs1, hF⟩ := hF
  refine zc_newa X hH hB (atype := .int) 0 (by simp) q239 hI hJ hc1 hs1 dX1_init_42 (fun a13 h14 H hza13 eh14 hH hB => ?_)
  have hF := hF a13 h14 hza13 eh14
  obtain ⟨hc, hF⟩ := hF
  refine zc_putr X hH hc 3 103 ("ChurchyardBook", "acts", "[I", true) (by decide +kernel) rfl q217 (Or.inl rfl) (x := (some a13)) rfl (ty := (.array .int)) (by decide +kernel) rfl (Or.inr ⟨rfl, hN, rfl⟩) dX1_init_44 (fun h15 H locs eh15 hH => ?_)
  have hF := hF h15 eh15
  refine lv_aload_n hx hb dX1_init_47 rfl (lv_at hl 0 rfl) ?_
  refine lv_sipush (v := 2400) hx hb dX1_init_48 (by decide) ?_
  obtain ⟨hI, hF⟩ := hF
  obtain ⟨hJ, hF⟩ := hF
  obtain ⟨hc1, hF⟩ := hF
  obtain ⟨hs1, hF⟩ := hF
  refine zc_newa X hH hB (atype := .int) 0 (by simp) q239 hI hJ hc1 hs1 dX1_init_51 (fun a16 h17 H hza16 eh17 hH hB => ?_)
  have hF := hF a16 h17 hza16 eh17
  obtain ⟨hc, hF⟩ := hF
  refine zc_putr X hH hc 5 105 ("ChurchyardBook", "tape", "[I", true) (by decide +kernel) rfl q219 (Or.inl rfl) (x := (some a16)) rfl (ty := (.array .int)) (by decide +kernel) rfl (Or.inr ⟨rfl, hN, rfl⟩) dX1_init_53 (fun h18 H locs eh18 hH => ?_)
  have hF := hF h18 eh18
  exact zc_vret X hH hB rfl ⟨rfl, hF⟩ dX1_init_56
set_option maxHeartbeats 4000000 in
set_option maxRecDepth 100000 in
theorem wc_X1_newRow {l : Launch} {D : va_G} {cA : Nat → ClassId} {P : Nat → Prop} {G : Nat × Nat × Nat} {Q : Option Nat → ZH → Prop} {XE : String → Nat → ZH → Prop} {h : ZH} {C S : Nat} {v0 : Int32} {v1 : Int32} (hl9 : l.stackTraces = false) (hF : fc_X1_newRow G Q XE h C S v0 v1) :
    zc_M l yX1_newRow (ws_ yX1_newRow cX1_newRow 2 (some (.array (.object "ChurchyardBook$Place")))) 1 D cA P G [.int v0, .int v1] h C S (fun v h' => ∃ z : Option Nat, v = some (va_rf z) ∧ Q z h') XE := by
  refine zc_ofF hl9 rfl (by decide +kernel) (Nat.le_of_ble_eq_true rfl) ?_
  intro p e s m args below meth c H locs ls X hN hT hH hl
  have hx := X.1
  have hb := X.2.1
  have hown := X.2.2.2.1
  have hts := X.2.2.2.2.1
  have hl : lv_has ls 2 [(0, .int v0), (1, .int v1)] := hl
  have hB : 0 + C ≤ C ∧ 0 + S ≤ S := ⟨by omega, by omega⟩
  unfold fc_X1_newRow at hF
  refine lv_iload_n hx hb dX1_newRow_0 rfl (lv_at hl 0 rfl) ?_
  by_cases hsw : v0.toInt < 0 ∨ 2 < v0.toInt
  · have hF := hF.1 hsw
    refine lv_tableOut (tgt := 43) hx hb dX1_newRow_1 hsw (by decide) ?_
    refine lv_iload_n hx hb dX1_newRow_43 rfl (lv_at hl 1 rfl) ?_
    by_cases hI : v1 < 0
    · obtain ⟨hc1, hs1, hF⟩ := hF.1 hI
      exact zx_nase X hH hB hT hc1 hs1 hl.1 (Nat.le_of_ble_eq_true rfl) hI q497 (by simp) (Nat.le_of_ble_eq_true rfl) hF dX1_newRow_44
    · obtain ⟨hJ, hc1, hs1, hF⟩ := hF.2 hI
      refine zc_newq X hH hB 6 "ChurchyardBook$Deep" ⟨by decide, by decide, rfl⟩ (by simp) q497 hI hJ hc1 hs1 dX1_newRow_44 (fun a1 h2 H hza1 eh2 hH hB => ?_)
      have hF := hF a1 h2 hza1 eh2
      exact zc_aret X hH hB rfl (by first | exact Or.inl ⟨_, rfl⟩ | exact Or.inr ⟨_, rfl⟩) (r := (some a1)) rfl ⟨_, rfl, hF⟩ dX1_newRow_47
  · have hF := hF.2
    have hsw2 : v0.toInt = 0 ∨ v0.toInt = 1 ∨ v0.toInt = 2 := by omega
    rcases hsw2 with hk | hk | hk
    · have hF := hF.1 hk
      refine lv_tableIn (tgt := 28) hx hb dX1_newRow_1 (by rw [hk]; decide) (by rw [hk]; decide) (by rw [hk]; rfl) (by decide) ?_
      refine lv_iload_n hx hb dX1_newRow_28 rfl (lv_at hl 1 rfl) ?_
      by_cases hI : v1 < 0
      · obtain ⟨hc1, hs1, hF⟩ := hF.1 hI
        exact zx_nase X hH hB hT hc1 hs1 hl.1 (Nat.le_of_ble_eq_true rfl) hI q492 (by simp) (Nat.le_of_ble_eq_true rfl) hF dX1_newRow_29
      · obtain ⟨hJ, hc1, hs1, hF⟩ := hF.2 hI
        refine zc_newq X hH hB 3 "ChurchyardBook$Place" ⟨by decide, by decide, rfl⟩ (by simp) q492 hI hJ hc1 hs1 dX1_newRow_29 (fun a4 h5 H hza4 eh5 hH hB => ?_)
        have hF := hF a4 h5 hza4 eh5
        exact zc_aret X hH hB rfl (by first | exact Or.inl ⟨_, rfl⟩ | exact Or.inr ⟨_, rfl⟩) (r := (some a4)) rfl ⟨_, rfl, hF⟩ dX1_newRow_32
    · have hF := hF.2.1 hk
      refine lv_tableIn (tgt := 33) hx hb dX1_newRow_1 (by rw [hk]; decide) (by rw [hk]; decide) (by rw [hk]; rfl) (by decide) ?_
      refine lv_iload_n hx hb dX1_newRow_33 rfl (lv_at hl 1 rfl) ?_
      by_cases hI : v1 < 0
      · obtain ⟨hc1, hs1, hF⟩ := hF.1 hI
        exact zx_nase X hH hB hT hc1 hs1 hl.1 (Nat.le_of_ble_eq_true rfl) hI q493 (by simp) (Nat.le_of_ble_eq_true rfl) hF dX1_newRow_34
      · obtain ⟨hJ, hc1, hs1, hF⟩ := hF.2 hI
        refine zc_newq X hH hB 4 "ChurchyardBook$Grave" ⟨by decide, by decide, rfl⟩ (by simp) q493 hI hJ hc1 hs1 dX1_newRow_34 (fun a7 h8 H hza7 eh8 hH hB => ?_)
        have hF := hF a7 h8 hza7 eh8
        exact zc_aret X hH hB rfl (by first | exact Or.inl ⟨_, rfl⟩ | exact Or.inr ⟨_, rfl⟩) (r := (some a7)) rfl ⟨_, rfl, hF⟩ dX1_newRow_37
    · have hF := hF.2.2 hk
      refine lv_tableIn (tgt := 38) hx hb dX1_newRow_1 (by rw [hk]; decide) (by rw [hk]; decide) (by rw [hk]; rfl) (by decide) ?_
      refine lv_iload_n hx hb dX1_newRow_38 rfl (lv_at hl 1 rfl) ?_
      by_cases hI : v1 < 0
      · obtain ⟨hc1, hs1, hF⟩ := hF.1 hI
        exact zx_nase X hH hB hT hc1 hs1 hl.1 (Nat.le_of_ble_eq_true rfl) hI q495 (by simp) (Nat.le_of_ble_eq_true rfl) hF dX1_newRow_39
      · obtain ⟨hJ, hc1, hs1, hF⟩ := hF.2 hI
        refine zc_newq X hH hB 5 "ChurchyardBook$Wall" ⟨by decide, by decide, rfl⟩ (by simp) q495 hI hJ hc1 hs1 dX1_newRow_39 (fun a10 h11 H hza10 eh11 hH hB => ?_)
        have hF := hF a10 h11 hza10 eh11
        exact zc_aret X hH hB rfl (by first | exact Or.inl ⟨_, rfl⟩ | exact Or.inr ⟨_, rfl⟩) (r := (some a10)) rfl ⟨_, rfl, hF⟩ dX1_newRow_42
set_option maxHeartbeats 4000000 in
set_option maxRecDepth 100000 in
theorem wc_X9_init {l : Launch} {D : va_G} {cA : Nat → ClassId} {P : Nat → Prop} {G : Nat × Nat × Nat} {o : Nat} {Q : ZH → Prop} {h : ZH} {C S : Nat} {v1 : Int32} {v2 : Int32} {v3 : Int32} {v4 : Int32} {v5 : Int32} {v6 : Int32} (hl9 : l.stackTraces = false) (hF : fc_X9_init G o Q h C S v1 v2 v3 v4 v5 v6) :
    zc_M l yX9_init (ws_ yX9_init cX9_init 7 none) 4 D cA P G [.ref o, .int v1, .int v2, .int v3, .int v4, .int v5, .int v6] h C S (fun v h' => v = none ∧ Q h') zc_no := by
  refine zc_ofF hl9 rfl (by decide +kernel) (Nat.le_of_ble_eq_true rfl) ?_
  intro p e s m args below meth c H locs ls X hN hT hH hl
  have hx := X.1
  have hb := X.2.1
  have hown := X.2.2.2.1
  have hts := X.2.2.2.2.1
  have hl : lv_has ls 7 [(0, .ref o), (1, .int v1), (2, .int v2), (3, .int v3), (4, .int v4), (5, .int v5), (6, .int v6)] := hl
  have hB : 0 + C ≤ C ∧ 0 + S ≤ S := ⟨by omega, by omega⟩
  unfold fc_X9_init at hF
  refine lv_aload_n hx hb dX9_init_0 rfl (lv_at hl 0 rfl) ?_
  refine zc_call (c1 := 0) (s1 := 0) (rest := []) hH hB (Nat.zero_le _) (Nat.zero_le _) (fun hf => zc_rIN X hH (As := []) (host := "ChurchyardBook") (wc_X2_init X.2.2.2.2.2.2.2.1 hF) (lw_meth q139) (by decide +kernel) q88 q138 rfl ⟨by decide, by decide, rfl⟩ ⟨Nat.le_of_ble_eq_true rfl, Nat.le_of_ble_eq_true rfl, Nat.le_of_ble_eq_true rfl⟩ rfl hl.1 (st0 := [.ref o]) rfl (Nat.le_of_ble_eq_true rfl) dX9_init_1 hf) (fun E9 ce9 q9 h9 H locs hx9 => False.elim hx9) (fun v9 h9 H locs hv9 hH hB => ?_)
  obtain ⟨rfl, hF, rfl⟩ := hv9
  refine lv_aload_n hx hb dX9_init_4 rfl (lv_at hl 0 rfl) ?_
  refine lv_iconst (v := 0) hx hb dX9_init_5 (by decide) ?_
  obtain ⟨hc, hF⟩ := hF
  refine zc_puti X hH hc 6 606 ("ChurchyardBook$Grave", "state", "I", false) (by decide +kernel) rfl q671 (Or.inl rfl) (ty := .int) (by decide +kernel) rfl rfl (Or.inl rfl) dX9_init_6 (fun h1 H locs eh1 hH => ?_)
  have hF := hF h1 eh1
  refine lv_aload_n hx hb dX9_init_9 rfl (lv_at hl 0 rfl) ?_
  obtain ⟨hc1, hF⟩ := hF
  obtain ⟨hs1, hF⟩ := hF
  refine zc_new X hH hB (ci := 4) rfl (n := 3) q652 q156 q94 (by decide) hc1 hs1 dX9_init_10 (fun a2 h3 H hza2 eh3 hH hB => ?_)
  have hF := hF a2 h3 hza2 eh3
  refine lv_dup hx hb dX9_init_13 rfl ?_
  refine lv_iconst (v := 0) hx hb dX9_init_14 (by decide) ?_
  obtain ⟨c4, s5, hc1, hs1, hF⟩ := hF
  refine zc_call (c1 := c4) (s1 := s5) (rest := [.ref a2, .ref o]) hH hB hc1 hs1 (fun hf => zc_rI X hH (As := [.int 0]) (wc_J2_init X.2.2.2.2.2.2.2.1 hF) (lw_meth q159) q653 q94 q158 rfl ⟨by decide, by decide, rfl⟩ ⟨Nat.le_of_ble_eq_true rfl, Nat.le_of_ble_eq_true rfl, Nat.le_of_ble_eq_true rfl⟩ rfl hl.1 (st0 := [.int 0, .ref a2, .ref a2, .ref o]) rfl (Nat.le_of_ble_eq_true rfl) dX9_init_15 hf) (fun E9 ce9 q9 h9 H locs hx9 => False.elim hx9) (fun v9 h6 H locs hv9 hH hB => ?_)
  obtain ⟨rfl, hF⟩ := hv9
  obtain ⟨hc, hF⟩ := hF
  refine zc_putr X hH hc 11 611 ("ChurchyardBook$Grave", "order", "Ljava/util/ArrayList;", true) (by decide +kernel) rfl q685 (Or.inl rfl) (x := (some a2)) rfl (ty := (.object "java/util/ArrayList")) (by decide +kernel) rfl (Or.inr ⟨rfl, hN, rfl⟩) dX9_init_18 (fun h7 H locs eh7 hH => ?_)
  have hF := hF h7 eh7
  refine lv_aload_n hx hb dX9_init_21 rfl (lv_at hl 0 rfl) ?_
  obtain ⟨hc1, hF⟩ := hF
  obtain ⟨hs1, hF⟩ := hF
  refine zc_new X hH hB (ci := 4) rfl (n := 3) q652 q156 q94 (by decide) hc1 hs1 dX9_init_22 (fun a8 h9 H hza8 eh9 hH hB => ?_)
  have hF := hF a8 h9 hza8 eh9
  refine lv_dup hx hb dX9_init_25 rfl ?_
  refine lv_iconst (v := 1) hx hb dX9_init_26 (by decide) ?_
  obtain ⟨c10, s11, hc1, hs1, hF⟩ := hF
  refine zc_call (c1 := c10) (s1 := s11) (rest := [.ref a8, .ref o]) hH hB hc1 hs1 (fun hf => zc_rI X hH (As := [.int 1]) (wc_J2_init X.2.2.2.2.2.2.2.1 hF) (lw_meth q159) q653 q94 q158 rfl ⟨by decide, by decide, rfl⟩ ⟨Nat.le_of_ble_eq_true rfl, Nat.le_of_ble_eq_true rfl, Nat.le_of_ble_eq_true rfl⟩ rfl hl.1 (st0 := [.int 1, .ref a8, .ref a8, .ref o]) rfl (Nat.le_of_ble_eq_true rfl) dX9_init_27 hf) (fun E9 ce9 q9 h9 H locs hx9 => False.elim hx9) (fun v9 h12 H locs hv9 hH hB => ?_)
  obtain ⟨rfl, hF⟩ := hv9
  obtain ⟨hc, hF⟩ := hF
  refine zc_putr X hH hc 15 615 ("ChurchyardBook$Grave", "lying", "Ljava/util/ArrayList;", true) (by decide +kernel) rfl q695 (Or.inl rfl) (x := (some a8)) rfl (ty := (.object "java/util/ArrayList")) (by decide +kernel) rfl (Or.inr ⟨rfl, hN, rfl⟩) dX9_init_30 (fun h13 H locs eh13 hH => ?_)
  have hF := hF h13 eh13
  refine lv_aload_n hx hb dX9_init_33 rfl (lv_at hl 0 rfl) ?_
  refine lv_iload_n hx hb dX9_init_34 rfl (lv_at hl 1 rfl) ?_
  obtain ⟨hc, hF⟩ := hF
  refine zc_puti X hH hc 0 600 ("ChurchyardBook$Grave", "number", "I", true) (by decide +kernel) rfl q654 (Or.inl rfl) (ty := .int) (by decide +kernel) rfl rfl (Or.inr ⟨rfl, hN, rfl⟩) dX9_init_35 (fun h14 H locs eh14 hH => ?_)
  have hF := hF h14 eh14
  refine lv_aload_n hx hb dX9_init_38 rfl (lv_at hl 0 rfl) ?_
  refine lv_iload_n hx hb dX9_init_39 rfl (lv_at hl 2 rfl) ?_
  obtain ⟨hc, hF⟩ := hF
  refine zc_puti X hH hc 1 601 ("ChurchyardBook$Grave", "field", "I", true) (by decide +kernel) rfl q657 (Or.inl rfl) (ty := .int) (by decide +kernel) rfl rfl (Or.inr ⟨rfl, hN, rfl⟩) dX9_init_40 (fun h15 H locs eh15 hH => ?_)
  have hF := hF h15 eh15
  refine lv_aload_n hx hb dX9_init_43 rfl (lv_at hl 0 rfl) ?_
  refine lv_iload_n hx hb dX9_init_44 rfl (lv_at hl 3 rfl) ?_
  obtain ⟨hc, hF⟩ := hF
  refine zc_puti X hH hc 2 602 ("ChurchyardBook$Grave", "row", "I", true) (by decide +kernel) rfl q660 (Or.inl rfl) (ty := .int) (by decide +kernel) rfl rfl (Or.inr ⟨rfl, hN, rfl⟩) dX9_init_45 (fun h16 H locs eh16 hH => ?_)
  have hF := hF h16 eh16
  refine lv_aload_n hx hb dX9_init_48 rfl (lv_at hl 0 rfl) ?_
  refine lv_iload hx hb dX9_init_49 (lv_at hl 4 rfl) ?_
  obtain ⟨hc, hF⟩ := hF
  refine zc_puti X hH hc 3 603 ("ChurchyardBook$Grave", "place", "I", true) (by decide +kernel) rfl q663 (Or.inl rfl) (ty := .int) (by decide +kernel) rfl rfl (Or.inr ⟨rfl, hN, rfl⟩) dX9_init_51 (fun h17 H locs eh17 hH => ?_)
  have hF := hF h17 eh17
  refine lv_aload_n hx hb dX9_init_54 rfl (lv_at hl 0 rfl) ?_
  refine lv_iload hx hb dX9_init_55 (lv_at hl 5 rfl) ?_
  obtain ⟨hc, hF⟩ := hF
  refine zc_puti X hH hc 4 604 ("ChurchyardBook$Grave", "wide", "I", true) (by decide +kernel) rfl q666 (Or.inl rfl) (ty := .int) (by decide +kernel) rfl rfl (Or.inr ⟨rfl, hN, rfl⟩) dX9_init_57 (fun h18 H locs eh18 hH => ?_)
  have hF := hF h18 eh18
  refine lv_aload_n hx hb dX9_init_60 rfl (lv_at hl 0 rfl) ?_
  refine lv_iload hx hb dX9_init_61 (lv_at hl 6 rfl) ?_
  obtain ⟨hc, hF⟩ := hF
  refine zc_puti X hH hc 5 605 ("ChurchyardBook$Grave", "ground", "I", true) (by decide +kernel) rfl q670 (Or.inl rfl) (ty := .int) (by decide +kernel) rfl rfl (Or.inr ⟨rfl, hN, rfl⟩) dX9_init_63 (fun h19 H locs eh19 hH => ?_)
  have hF := hF h19 eh19
  exact zc_vret X hH hB rfl ⟨rfl, hF⟩ dX9_init_66
set_option maxHeartbeats 4000000 in
set_option maxRecDepth 100000 in
theorem wc_X10_init {l : Launch} {D : va_G} {cA : Nat → ClassId} {P : Nat → Prop} {G : Nat × Nat × Nat} {o : Nat} {Q : ZH → Prop} {h : ZH} {C S : Nat} {v1 : Int32} {v2 : Int32} {v3 : Int32} {v4 : Int32} {v5 : Int32} {v6 : Int32} (hl9 : l.stackTraces = false) (hF : fc_X10_init G o Q h C S v1 v2 v3 v4 v5 v6) :
    zc_M l yX10_init (ws_ yX10_init cX10_init 7 none) 5 D cA P G [.ref o, .int v1, .int v2, .int v3, .int v4, .int v5, .int v6] h C S (fun v h' => v = none ∧ Q h') zc_no := by
  refine zc_ofF hl9 rfl (by decide +kernel) (Nat.le_of_ble_eq_true rfl) ?_
  intro p e s m args below meth c H locs ls X hN hT hH hl
  have hx := X.1
  have hb := X.2.1
  have hown := X.2.2.2.1
  have hts := X.2.2.2.2.1
  have hl : lv_has ls 7 [(0, .ref o), (1, .int v1), (2, .int v2), (3, .int v3), (4, .int v4), (5, .int v5), (6, .int v6)] := hl
  have hB : 0 + C ≤ C ∧ 0 + S ≤ S := ⟨by omega, by omega⟩
  unfold fc_X10_init at hF
  refine lv_aload_n hx hb dX10_init_0 rfl (lv_at hl 0 rfl) ?_
  refine lv_iload_n hx hb dX10_init_1 rfl (lv_at hl 1 rfl) ?_
  refine lv_iload_n hx hb dX10_init_2 rfl (lv_at hl 2 rfl) ?_
  refine lv_iload_n hx hb dX10_init_3 rfl (lv_at hl 3 rfl) ?_
  refine lv_iload hx hb dX10_init_4 (lv_at hl 4 rfl) ?_
  refine lv_iload hx hb dX10_init_6 (lv_at hl 5 rfl) ?_
  refine lv_iload hx hb dX10_init_8 (lv_at hl 6 rfl) ?_
  obtain ⟨c1, s2, hc1, hs1, hF⟩ := hF
  refine zc_call (c1 := c1) (s1 := s2) (rest := []) hH hB hc1 hs1 (fun hf => zc_rI X hH (As := [.int v1, .int v2, .int v3, .int v4, .int v5, .int v6]) (wc_X9_init X.2.2.2.2.2.2.2.1 hF) (lw_meth q650) q648 q114 q649 rfl ⟨by decide, by decide, rfl⟩ ⟨Nat.le_of_ble_eq_true rfl, Nat.le_of_ble_eq_true rfl, Nat.le_of_ble_eq_true rfl⟩ rfl hl.1 (st0 := [.int v6, .int v5, .int v4, .int v3, .int v2, .int v1, .ref o]) rfl (Nat.le_of_ble_eq_true rfl) dX10_init_10 hf) (fun E9 ce9 q9 h9 H locs hx9 => False.elim hx9) (fun v9 h3 H locs hv9 hH hB => ?_)
  obtain ⟨rfl, hF⟩ := hv9
  exact zc_vret X hH hB rfl ⟨rfl, hF⟩ dX10_init_13
set_option maxHeartbeats 4000000 in
set_option maxRecDepth 100000 in
theorem wc_X11_init {l : Launch} {D : va_G} {cA : Nat → ClassId} {P : Nat → Prop} {G : Nat × Nat × Nat} {o : Nat} {Q : ZH → Prop} {h : ZH} {C S : Nat} {v1 : Int32} {v2 : Int32} {v3 : Int32} {v4 : Int32} {v5 : Int32} {v6 : Int32} (hl9 : l.stackTraces = false) (hF : fc_X11_init G o Q h C S v1 v2 v3 v4 v5 v6) :
    zc_M l yX11_init (ws_ yX11_init cX11_init 7 none) 6 D cA P G [.ref o, .int v1, .int v2, .int v3, .int v4, .int v5, .int v6] h C S (fun v h' => v = none ∧ Q h') zc_no := by
  refine zc_ofF hl9 rfl (by decide +kernel) (Nat.le_of_ble_eq_true rfl) ?_
  intro p e s m args below meth c H locs ls X hN hT hH hl
  have hx := X.1
  have hb := X.2.1
  have hown := X.2.2.2.1
  have hts := X.2.2.2.2.1
  have hl : lv_has ls 7 [(0, .ref o), (1, .int v1), (2, .int v2), (3, .int v3), (4, .int v4), (5, .int v5), (6, .int v6)] := hl
  have hB : 0 + C ≤ C ∧ 0 + S ≤ S := ⟨by omega, by omega⟩
  unfold fc_X11_init at hF
  refine lv_aload_n hx hb dX11_init_0 rfl (lv_at hl 0 rfl) ?_
  refine lv_iload_n hx hb dX11_init_1 rfl (lv_at hl 1 rfl) ?_
  refine lv_iload_n hx hb dX11_init_2 rfl (lv_at hl 2 rfl) ?_
  refine lv_iload_n hx hb dX11_init_3 rfl (lv_at hl 3 rfl) ?_
  refine lv_iload hx hb dX11_init_4 (lv_at hl 4 rfl) ?_
  refine lv_iload hx hb dX11_init_6 (lv_at hl 5 rfl) ?_
  refine lv_iload hx hb dX11_init_8 (lv_at hl 6 rfl) ?_
  obtain ⟨c1, s2, hc1, hs1, hF⟩ := hF
  refine zc_call (c1 := c1) (s1 := s2) (rest := []) hH hB hc1 hs1 (fun hf => zc_rI X hH (As := [.int v1, .int v2, .int v3, .int v4, .int v5, .int v6]) (wc_X10_init X.2.2.2.2.2.2.2.1 hF) (lw_meth q647) q739 q115 q646 rfl ⟨by decide, by decide, rfl⟩ ⟨Nat.le_of_ble_eq_true rfl, Nat.le_of_ble_eq_true rfl, Nat.le_of_ble_eq_true rfl⟩ rfl hl.1 (st0 := [.int v6, .int v5, .int v4, .int v3, .int v2, .int v1, .ref o]) rfl (Nat.le_of_ble_eq_true rfl) dX11_init_10 hf) (fun E9 ce9 q9 h9 H locs hx9 => False.elim hx9) (fun v9 h3 H locs hv9 hH hB => ?_)
  obtain ⟨rfl, hF⟩ := hv9
  exact zc_vret X hH hB rfl ⟨rfl, hF⟩ dX11_init_13
set_option maxHeartbeats 4000000 in
set_option maxRecDepth 100000 in
theorem wc_X12_init {l : Launch} {D : va_G} {cA : Nat → ClassId} {P : Nat → Prop} {G : Nat × Nat × Nat} {o : Nat} {Q : ZH → Prop} {h : ZH} {C S : Nat} {v1 : Int32} {v2 : Int32} {v3 : Int32} {v4 : Int32} {v5 : Int32} {v6 : Int32} (hl9 : l.stackTraces = false) (hF : fc_X12_init G o Q h C S v1 v2 v3 v4 v5 v6) :
    zc_M l yX12_init (ws_ yX12_init cX12_init 7 none) 7 D cA P G [.ref o, .int v1, .int v2, .int v3, .int v4, .int v5, .int v6] h C S (fun v h' => v = none ∧ Q h') zc_no := by
  refine zc_ofF hl9 rfl (by decide +kernel) (Nat.le_of_ble_eq_true rfl) ?_
  intro p e s m args below meth c H locs ls X hN hT hH hl
  have hx := X.1
  have hb := X.2.1
  have hown := X.2.2.2.1
  have hts := X.2.2.2.2.1
  have hl : lv_has ls 7 [(0, .ref o), (1, .int v1), (2, .int v2), (3, .int v3), (4, .int v4), (5, .int v5), (6, .int v6)] := hl
  have hB : 0 + C ≤ C ∧ 0 + S ≤ S := ⟨by omega, by omega⟩
  unfold fc_X12_init at hF
  refine lv_aload_n hx hb dX12_init_0 rfl (lv_at hl 0 rfl) ?_
  refine lv_iload_n hx hb dX12_init_1 rfl (lv_at hl 1 rfl) ?_
  refine lv_iload_n hx hb dX12_init_2 rfl (lv_at hl 2 rfl) ?_
  refine lv_iload_n hx hb dX12_init_3 rfl (lv_at hl 3 rfl) ?_
  refine lv_iload hx hb dX12_init_4 (lv_at hl 4 rfl) ?_
  refine lv_iload hx hb dX12_init_6 (lv_at hl 5 rfl) ?_
  refine lv_iload hx hb dX12_init_8 (lv_at hl 6 rfl) ?_
  obtain ⟨c1, s2, hc1, hs1, hF⟩ := hF
  refine zc_call (c1 := c1) (s1 := s2) (rest := []) hH hB hc1 hs1 (fun hf => zc_rI X hH (As := [.int v1, .int v2, .int v3, .int v4, .int v5, .int v6]) (wc_X11_init X.2.2.2.2.2.2.2.1 hF) (lw_meth q738) q762 q116 q737 rfl ⟨by decide, by decide, rfl⟩ ⟨Nat.le_of_ble_eq_true rfl, Nat.le_of_ble_eq_true rfl, Nat.le_of_ble_eq_true rfl⟩ rfl hl.1 (st0 := [.int v6, .int v5, .int v4, .int v3, .int v2, .int v1, .ref o]) rfl (Nat.le_of_ble_eq_true rfl) dX12_init_10 hf) (fun E9 ce9 q9 h9 H locs hx9 => False.elim hx9) (fun v9 h3 H locs hv9 hH hB => ?_)
  obtain ⟨rfl, hF⟩ := hv9
  exact zc_vret X hH hB rfl ⟨rfl, hF⟩ dX12_init_13
set_option maxHeartbeats 4000000 in
set_option maxRecDepth 100000 in
theorem wc_X13_init {l : Launch} {D : va_G} {cA : Nat → ClassId} {P : Nat → Prop} {G : Nat × Nat × Nat} {o : Nat} {Q : ZH → Prop} {h : ZH} {C S : Nat} {v1 : Int32} {v2 : Int32} {v3 : Int32} {v4 : Int32} {v5 : Int32} {v6 : Int32} (hl9 : l.stackTraces = false) (hF : fc_X13_init G o Q h C S v1 v2 v3 v4 v5 v6) :
    zc_M l yX13_init (ws_ yX13_init cX13_init 7 none) 6 D cA P G [.ref o, .int v1, .int v2, .int v3, .int v4, .int v5, .int v6] h C S (fun v h' => v = none ∧ Q h') zc_no := by
  refine zc_ofF hl9 rfl (by decide +kernel) (Nat.le_of_ble_eq_true rfl) ?_
  intro p e s m args below meth c H locs ls X hN hT hH hl
  have hx := X.1
  have hb := X.2.1
  have hown := X.2.2.2.1
  have hts := X.2.2.2.2.1
  have hl : lv_has ls 7 [(0, .ref o), (1, .int v1), (2, .int v2), (3, .int v3), (4, .int v4), (5, .int v5), (6, .int v6)] := hl
  have hB : 0 + C ≤ C ∧ 0 + S ≤ S := ⟨by omega, by omega⟩
  unfold fc_X13_init at hF
  refine lv_aload_n hx hb dX13_init_0 rfl (lv_at hl 0 rfl) ?_
  refine lv_iload_n hx hb dX13_init_1 rfl (lv_at hl 1 rfl) ?_
  refine lv_iload_n hx hb dX13_init_2 rfl (lv_at hl 2 rfl) ?_
  refine lv_iload_n hx hb dX13_init_3 rfl (lv_at hl 3 rfl) ?_
  refine lv_iload hx hb dX13_init_4 (lv_at hl 4 rfl) ?_
  refine lv_iload hx hb dX13_init_6 (lv_at hl 5 rfl) ?_
  refine lv_iload hx hb dX13_init_8 (lv_at hl 6 rfl) ?_
  obtain ⟨c1, s2, hc1, hs1, hF⟩ := hF
  refine zc_call (c1 := c1) (s1 := s2) (rest := []) hH hB hc1 hs1 (fun hf => zc_rI X hH (As := [.int v1, .int v2, .int v3, .int v4, .int v5, .int v6]) (wc_X10_init X.2.2.2.2.2.2.2.1 hF) (lw_meth q647) q784 q115 q646 rfl ⟨by decide, by decide, rfl⟩ ⟨Nat.le_of_ble_eq_true rfl, Nat.le_of_ble_eq_true rfl, Nat.le_of_ble_eq_true rfl⟩ rfl hl.1 (st0 := [.int v6, .int v5, .int v4, .int v3, .int v2, .int v1, .ref o]) rfl (Nat.le_of_ble_eq_true rfl) dX13_init_10 hf) (fun E9 ce9 q9 h9 H locs hx9 => False.elim hx9) (fun v9 h3 H locs hv9 hH hB => ?_)
  obtain ⟨rfl, hF⟩ := hv9
  exact zc_vret X hH hB rfl ⟨rfl, hF⟩ dX13_init_13
set_option maxHeartbeats 4000000 in
set_option maxRecDepth 100000 in
theorem wc_X14_init {l : Launch} {D : va_G} {cA : Nat → ClassId} {P : Nat → Prop} {G : Nat × Nat × Nat} {o : Nat} {Q : ZH → Prop} {h : ZH} {C S : Nat} {v1 : Int32} {v2 : Int32} {v3 : Int32} {v4 : Int32} {v5 : Int32} {v6 : Int32} (hl9 : l.stackTraces = false) (hF : fc_X14_init G o Q h C S v1 v2 v3 v4 v5 v6) :
    zc_M l yX14_init (ws_ yX14_init cX14_init 7 none) 7 D cA P G [.ref o, .int v1, .int v2, .int v3, .int v4, .int v5, .int v6] h C S (fun v h' => v = none ∧ Q h') zc_no := by
  refine zc_ofF hl9 rfl (by decide +kernel) (Nat.le_of_ble_eq_true rfl) ?_
  intro p e s m args below meth c H locs ls X hN hT hH hl
  have hx := X.1
  have hb := X.2.1
  have hown := X.2.2.2.1
  have hts := X.2.2.2.2.1
  have hl : lv_has ls 7 [(0, .ref o), (1, .int v1), (2, .int v2), (3, .int v3), (4, .int v4), (5, .int v5), (6, .int v6)] := hl
  have hB : 0 + C ≤ C ∧ 0 + S ≤ S := ⟨by omega, by omega⟩
  unfold fc_X14_init at hF
  refine lv_aload_n hx hb dX14_init_0 rfl (lv_at hl 0 rfl) ?_
  refine lv_iload_n hx hb dX14_init_1 rfl (lv_at hl 1 rfl) ?_
  refine lv_iload_n hx hb dX14_init_2 rfl (lv_at hl 2 rfl) ?_
  refine lv_iload_n hx hb dX14_init_3 rfl (lv_at hl 3 rfl) ?_
  refine lv_iload hx hb dX14_init_4 (lv_at hl 4 rfl) ?_
  refine lv_iload hx hb dX14_init_6 (lv_at hl 5 rfl) ?_
  refine lv_iload hx hb dX14_init_8 (lv_at hl 6 rfl) ?_
  obtain ⟨c1, s2, hc1, hs1, hF⟩ := hF
  refine zc_call (c1 := c1) (s1 := s2) (rest := []) hH hB hc1 hs1 (fun hf => zc_rI X hH (As := [.int v1, .int v2, .int v3, .int v4, .int v5, .int v6]) (wc_X13_init X.2.2.2.2.2.2.2.1 hF) (lw_meth q783) q807 q118 q782 rfl ⟨by decide, by decide, rfl⟩ ⟨Nat.le_of_ble_eq_true rfl, Nat.le_of_ble_eq_true rfl, Nat.le_of_ble_eq_true rfl⟩ rfl hl.1 (st0 := [.int v6, .int v5, .int v4, .int v3, .int v2, .int v1, .ref o]) rfl (Nat.le_of_ble_eq_true rfl) dX14_init_10 hf) (fun E9 ce9 q9 h9 H locs hx9 => False.elim hx9) (fun v9 h3 H locs hv9 hH hB => ?_)
  obtain ⟨rfl, hF⟩ := hv9
  exact zc_vret X hH hB rfl ⟨rfl, hF⟩ dX14_init_13
set_option maxHeartbeats 4000000 in
set_option maxRecDepth 100000 in
theorem wc_X15_init {l : Launch} {D : va_G} {cA : Nat → ClassId} {P : Nat → Prop} {G : Nat × Nat × Nat} {o : Nat} {Q : ZH → Prop} {h : ZH} {C S : Nat} {v1 : Int32} {v2 : Int32} {v3 : Int32} {v4 : Int32} {v5 : Int32} {v6 : Int32} (hl9 : l.stackTraces = false) (hF : fc_X15_init G o Q h C S v1 v2 v3 v4 v5 v6) :
    zc_M l yX15_init (ws_ yX15_init cX15_init 7 none) 6 D cA P G [.ref o, .int v1, .int v2, .int v3, .int v4, .int v5, .int v6] h C S (fun v h' => v = none ∧ Q h') zc_no := by
  refine zc_ofF hl9 rfl (by decide +kernel) (Nat.le_of_ble_eq_true rfl) ?_
  intro p e s m args below meth c H locs ls X hN hT hH hl
  have hx := X.1
  have hb := X.2.1
  have hown := X.2.2.2.1
  have hts := X.2.2.2.2.1
  have hl : lv_has ls 7 [(0, .ref o), (1, .int v1), (2, .int v2), (3, .int v3), (4, .int v4), (5, .int v5), (6, .int v6)] := hl
  have hB : 0 + C ≤ C ∧ 0 + S ≤ S := ⟨by omega, by omega⟩
  unfold fc_X15_init at hF
  refine lv_aload_n hx hb dX15_init_0 rfl (lv_at hl 0 rfl) ?_
  refine lv_iload_n hx hb dX15_init_1 rfl (lv_at hl 1 rfl) ?_
  refine lv_iload_n hx hb dX15_init_2 rfl (lv_at hl 2 rfl) ?_
  refine lv_iload_n hx hb dX15_init_3 rfl (lv_at hl 3 rfl) ?_
  refine lv_iload hx hb dX15_init_4 (lv_at hl 4 rfl) ?_
  refine lv_iload hx hb dX15_init_6 (lv_at hl 5 rfl) ?_
  refine lv_iload hx hb dX15_init_8 (lv_at hl 6 rfl) ?_
  obtain ⟨c1, s2, hc1, hs1, hF⟩ := hF
  refine zc_call (c1 := c1) (s1 := s2) (rest := []) hH hB hc1 hs1 (fun hf => zc_rI X hH (As := [.int v1, .int v2, .int v3, .int v4, .int v5, .int v6]) (wc_X10_init X.2.2.2.2.2.2.2.1 hF) (lw_meth q647) q830 q115 q646 rfl ⟨by decide, by decide, rfl⟩ ⟨Nat.le_of_ble_eq_true rfl, Nat.le_of_ble_eq_true rfl, Nat.le_of_ble_eq_true rfl⟩ rfl hl.1 (st0 := [.int v6, .int v5, .int v4, .int v3, .int v2, .int v1, .ref o]) rfl (Nat.le_of_ble_eq_true rfl) dX15_init_10 hf) (fun E9 ce9 q9 h9 H locs hx9 => False.elim hx9) (fun v9 h3 H locs hv9 hH hB => ?_)
  obtain ⟨rfl, hF⟩ := hv9
  exact zc_vret X hH hB rfl ⟨rfl, hF⟩ dX15_init_13
set_option maxHeartbeats 4000000 in
set_option maxRecDepth 100000 in
theorem wc_X1_newGrave {l : Launch} {D : va_G} {cA : Nat → ClassId} {P : Nat → Prop} {G : Nat × Nat × Nat} {Q : Option Nat → ZH → Prop} {h : ZH} {C S : Nat} {v0 : Int32} {v1 : Int32} {v2 : Int32} {v3 : Int32} {v4 : Int32} {v5 : Int32} {v6 : Int32} (hl9 : l.stackTraces = false) (hF : fc_X1_newGrave G Q h C S v0 v1 v2 v3 v4 v5 v6) :
    zc_M l yX1_newGrave (ws_ yX1_newGrave cX1_newGrave 7 (some (.object "ChurchyardBook$Grave"))) 8 D cA P G [.int v0, .int v1, .int v2, .int v3, .int v4, .int v5, .int v6] h C S (fun v h' => ∃ z : Option Nat, v = some (va_rf z) ∧ Q z h') zc_no := by
  refine zc_ofF hl9 rfl (by decide +kernel) (Nat.le_of_ble_eq_true rfl) ?_
  intro p e s m args below meth c H locs ls X hN hT hH hl
  have hx := X.1
  have hb := X.2.1
  have hown := X.2.2.2.1
  have hts := X.2.2.2.2.1
  have hl : lv_has ls 7 [(0, .int v0), (1, .int v1), (2, .int v2), (3, .int v3), (4, .int v4), (5, .int v5), (6, .int v6)] := hl
  have hB : 0 + C ≤ C ∧ 0 + S ≤ S := ⟨by omega, by omega⟩
  unfold fc_X1_newGrave at hF
  refine lv_iload hx hb dX1_newGrave_0 (lv_at hl 4 rfl) ?_
  by_cases hsw : v4.toInt < 1 ∨ 5 < v4.toInt
  · have hF := hF.1 hsw
    refine lv_tableOut (tgt := 116) hx hb dX1_newGrave_2 hsw (by decide) ?_
    obtain ⟨hc1, hF⟩ := hF
    obtain ⟨hs1, hF⟩ := hF
    refine zc_new X hH hB (ci := 12) rfl (n := 16) q825 q826 q120 (by decide) hc1 hs1 dX1_newGrave_116 (fun a1 h2 H hza1 eh2 hH hB => ?_)
    have hF := hF a1 h2 hza1 eh2
    refine lv_dup hx hb dX1_newGrave_119 rfl ?_
    refine lv_iload_n hx hb dX1_newGrave_120 rfl (lv_at hl 0 rfl) ?_
    refine lv_iload_n hx hb dX1_newGrave_121 rfl (lv_at hl 1 rfl) ?_
    refine lv_iload_n hx hb dX1_newGrave_122 rfl (lv_at hl 2 rfl) ?_
    refine lv_iload_n hx hb dX1_newGrave_123 rfl (lv_at hl 3 rfl) ?_
    refine lv_iload hx hb dX1_newGrave_124 (lv_at hl 5 rfl) ?_
    refine lv_iload hx hb dX1_newGrave_126 (lv_at hl 6 rfl) ?_
    obtain ⟨c3, s4, hc1, hs1, hF⟩ := hF
    refine zc_call (c1 := c3) (s1 := s4) (rest := [.ref a1]) hH hB hc1 hs1 (fun hf => zc_rI X hH (As := [.int v0, .int v1, .int v2, .int v3, .int v5, .int v6]) (wc_X15_init X.2.2.2.2.2.2.2.1 hF) (lw_meth q829) q827 q120 q828 rfl ⟨by decide, by decide, rfl⟩ ⟨Nat.le_of_ble_eq_true rfl, Nat.le_of_ble_eq_true rfl, Nat.le_of_ble_eq_true rfl⟩ rfl hl.1 (st0 := [.int v6, .int v5, .int v3, .int v2, .int v1, .int v0, .ref a1, .ref a1]) rfl (Nat.le_of_ble_eq_true rfl) dX1_newGrave_128 hf) (fun E9 ce9 q9 h9 H locs hx9 => False.elim hx9) (fun v9 h5 H locs hv9 hH hB => ?_)
    obtain ⟨rfl, hF⟩ := hv9
    exact zc_aret X hH hB rfl (by first | exact Or.inl ⟨_, rfl⟩ | exact Or.inr ⟨_, rfl⟩) (r := (some a1)) rfl ⟨_, rfl, hF⟩ dX1_newGrave_131
  · have hF := hF.2
    have hsw2 : v4.toInt = 1 ∨ v4.toInt = 2 ∨ v4.toInt = 3 ∨ v4.toInt = 4 ∨ v4.toInt = 5 := by omega
    rcases hsw2 with hk | hk | hk | hk | hk
    · have hF := hF.1 hk
      refine lv_tableIn (tgt := 36) hx hb dX1_newGrave_2 (by rw [hk]; decide) (by rw [hk]; decide) (by rw [hk]; rfl) (by decide) ?_
      obtain ⟨hc1, hF⟩ := hF
      obtain ⟨hs1, hF⟩ := hF
      refine zc_new X hH hB (ci := 7) rfl (n := 16) q643 q644 q115 (by decide) hc1 hs1 dX1_newGrave_36 (fun a6 h7 H hza6 eh7 hH hB => ?_)
      have hF := hF a6 h7 hza6 eh7
      refine lv_dup hx hb dX1_newGrave_39 rfl ?_
      refine lv_iload_n hx hb dX1_newGrave_40 rfl (lv_at hl 0 rfl) ?_
      refine lv_iload_n hx hb dX1_newGrave_41 rfl (lv_at hl 1 rfl) ?_
      refine lv_iload_n hx hb dX1_newGrave_42 rfl (lv_at hl 2 rfl) ?_
      refine lv_iload_n hx hb dX1_newGrave_43 rfl (lv_at hl 3 rfl) ?_
      refine lv_iload hx hb dX1_newGrave_44 (lv_at hl 5 rfl) ?_
      refine lv_iload hx hb dX1_newGrave_46 (lv_at hl 6 rfl) ?_
      obtain ⟨c8, s9, hc1, hs1, hF⟩ := hF
      refine zc_call (c1 := c8) (s1 := s9) (rest := [.ref a6]) hH hB hc1 hs1 (fun hf => zc_rI X hH (As := [.int v0, .int v1, .int v2, .int v3, .int v5, .int v6]) (wc_X10_init X.2.2.2.2.2.2.2.1 hF) (lw_meth q647) q645 q115 q646 rfl ⟨by decide, by decide, rfl⟩ ⟨Nat.le_of_ble_eq_true rfl, Nat.le_of_ble_eq_true rfl, Nat.le_of_ble_eq_true rfl⟩ rfl hl.1 (st0 := [.int v6, .int v5, .int v3, .int v2, .int v1, .int v0, .ref a6, .ref a6]) rfl (Nat.le_of_ble_eq_true rfl) dX1_newGrave_48 hf) (fun E9 ce9 q9 h9 H locs hx9 => False.elim hx9) (fun v9 h10 H locs hv9 hH hB => ?_)
      obtain ⟨rfl, hF⟩ := hv9
      exact zc_aret X hH hB rfl (by first | exact Or.inl ⟨_, rfl⟩ | exact Or.inr ⟨_, rfl⟩) (r := (some a6)) rfl ⟨_, rfl, hF⟩ dX1_newGrave_51
    · have hF := hF.2.1 hk
      refine lv_tableIn (tgt := 52) hx hb dX1_newGrave_2 (by rw [hk]; decide) (by rw [hk]; decide) (by rw [hk]; rfl) (by decide) ?_
      obtain ⟨hc1, hF⟩ := hF
      obtain ⟨hs1, hF⟩ := hF
      refine zc_new X hH hB (ci := 8) rfl (n := 16) q497 q735 q116 (by decide) hc1 hs1 dX1_newGrave_52 (fun a11 h12 H hza11 eh12 hH hB => ?_)
      have hF := hF a11 h12 hza11 eh12
      refine lv_dup hx hb dX1_newGrave_55 rfl ?_
      refine lv_iload_n hx hb dX1_newGrave_56 rfl (lv_at hl 0 rfl) ?_
      refine lv_iload_n hx hb dX1_newGrave_57 rfl (lv_at hl 1 rfl) ?_
      refine lv_iload_n hx hb dX1_newGrave_58 rfl (lv_at hl 2 rfl) ?_
      refine lv_iload_n hx hb dX1_newGrave_59 rfl (lv_at hl 3 rfl) ?_
      refine lv_iload hx hb dX1_newGrave_60 (lv_at hl 5 rfl) ?_
      refine lv_iload hx hb dX1_newGrave_62 (lv_at hl 6 rfl) ?_
      obtain ⟨c13, s14, hc1, hs1, hF⟩ := hF
      refine zc_call (c1 := c13) (s1 := s14) (rest := [.ref a11]) hH hB hc1 hs1 (fun hf => zc_rI X hH (As := [.int v0, .int v1, .int v2, .int v3, .int v5, .int v6]) (wc_X11_init X.2.2.2.2.2.2.2.1 hF) (lw_meth q738) q736 q116 q737 rfl ⟨by decide, by decide, rfl⟩ ⟨Nat.le_of_ble_eq_true rfl, Nat.le_of_ble_eq_true rfl, Nat.le_of_ble_eq_true rfl⟩ rfl hl.1 (st0 := [.int v6, .int v5, .int v3, .int v2, .int v1, .int v0, .ref a11, .ref a11]) rfl (Nat.le_of_ble_eq_true rfl) dX1_newGrave_64 hf) (fun E9 ce9 q9 h9 H locs hx9 => False.elim hx9) (fun v9 h15 H locs hv9 hH hB => ?_)
      obtain ⟨rfl, hF⟩ := hv9
      exact zc_aret X hH hB rfl (by first | exact Or.inl ⟨_, rfl⟩ | exact Or.inr ⟨_, rfl⟩) (r := (some a11)) rfl ⟨_, rfl, hF⟩ dX1_newGrave_67
    · have hF := hF.2.2.1 hk
      refine lv_tableIn (tgt := 68) hx hb dX1_newGrave_2 (by rw [hk]; decide) (by rw [hk]; decide) (by rw [hk]; rfl) (by decide) ?_
      obtain ⟨hc1, hF⟩ := hF
      obtain ⟨hs1, hF⟩ := hF
      refine zc_new X hH hB (ci := 9) rfl (n := 16) q757 q758 q117 (by decide) hc1 hs1 dX1_newGrave_68 (fun a16 h17 H hza16 eh17 hH hB => ?_)
      have hF := hF a16 h17 hza16 eh17
      refine lv_dup hx hb dX1_newGrave_71 rfl ?_
      refine lv_iload_n hx hb dX1_newGrave_72 rfl (lv_at hl 0 rfl) ?_
      refine lv_iload_n hx hb dX1_newGrave_73 rfl (lv_at hl 1 rfl) ?_
      refine lv_iload_n hx hb dX1_newGrave_74 rfl (lv_at hl 2 rfl) ?_
      refine lv_iload_n hx hb dX1_newGrave_75 rfl (lv_at hl 3 rfl) ?_
      refine lv_iload hx hb dX1_newGrave_76 (lv_at hl 5 rfl) ?_
      refine lv_iload hx hb dX1_newGrave_78 (lv_at hl 6 rfl) ?_
      obtain ⟨c18, s19, hc1, hs1, hF⟩ := hF
      refine zc_call (c1 := c18) (s1 := s19) (rest := [.ref a16]) hH hB hc1 hs1 (fun hf => zc_rI X hH (As := [.int v0, .int v1, .int v2, .int v3, .int v5, .int v6]) (wc_X12_init X.2.2.2.2.2.2.2.1 hF) (lw_meth q761) q759 q117 q760 rfl ⟨by decide, by decide, rfl⟩ ⟨Nat.le_of_ble_eq_true rfl, Nat.le_of_ble_eq_true rfl, Nat.le_of_ble_eq_true rfl⟩ rfl hl.1 (st0 := [.int v6, .int v5, .int v3, .int v2, .int v1, .int v0, .ref a16, .ref a16]) rfl (Nat.le_of_ble_eq_true rfl) dX1_newGrave_80 hf) (fun E9 ce9 q9 h9 H locs hx9 => False.elim hx9) (fun v9 h20 H locs hv9 hH hB => ?_)
      obtain ⟨rfl, hF⟩ := hv9
      exact zc_aret X hH hB rfl (by first | exact Or.inl ⟨_, rfl⟩ | exact Or.inr ⟨_, rfl⟩) (r := (some a16)) rfl ⟨_, rfl, hF⟩ dX1_newGrave_83
    · have hF := hF.2.2.2.1 hk
      refine lv_tableIn (tgt := 84) hx hb dX1_newGrave_2 (by rw [hk]; decide) (by rw [hk]; decide) (by rw [hk]; rfl) (by decide) ?_
      obtain ⟨hc1, hF⟩ := hF
      obtain ⟨hs1, hF⟩ := hF
      refine zc_new X hH hB (ci := 10) rfl (n := 16) q495 q780 q118 (by decide) hc1 hs1 dX1_newGrave_84 (fun a21 h22 H hza21 eh22 hH hB => ?_)
      have hF := hF a21 h22 hza21 eh22
      refine lv_dup hx hb dX1_newGrave_87 rfl ?_
      refine lv_iload_n hx hb dX1_newGrave_88 rfl (lv_at hl 0 rfl) ?_
      refine lv_iload_n hx hb dX1_newGrave_89 rfl (lv_at hl 1 rfl) ?_
      refine lv_iload_n hx hb dX1_newGrave_90 rfl (lv_at hl 2 rfl) ?_
      refine lv_iload_n hx hb dX1_newGrave_91 rfl (lv_at hl 3 rfl) ?_
      refine lv_iload hx hb dX1_newGrave_92 (lv_at hl 5 rfl) ?_
      refine lv_iload hx hb dX1_newGrave_94 (lv_at hl 6 rfl) ?_
      obtain ⟨c23, s24, hc1, hs1, hF⟩ := hF
      refine zc_call (c1 := c23) (s1 := s24) (rest := [.ref a21]) hH hB hc1 hs1 (fun hf => zc_rI X hH (As := [.int v0, .int v1, .int v2, .int v3, .int v5, .int v6]) (wc_X13_init X.2.2.2.2.2.2.2.1 hF) (lw_meth q783) q781 q118 q782 rfl ⟨by decide, by decide, rfl⟩ ⟨Nat.le_of_ble_eq_true rfl, Nat.le_of_ble_eq_true rfl, Nat.le_of_ble_eq_true rfl⟩ rfl hl.1 (st0 := [.int v6, .int v5, .int v3, .int v2, .int v1, .int v0, .ref a21, .ref a21]) rfl (Nat.le_of_ble_eq_true rfl) dX1_newGrave_96 hf) (fun E9 ce9 q9 h9 H locs hx9 => False.elim hx9) (fun v9 h25 H locs hv9 hH hB => ?_)
      obtain ⟨rfl, hF⟩ := hv9
      exact zc_aret X hH hB rfl (by first | exact Or.inl ⟨_, rfl⟩ | exact Or.inr ⟨_, rfl⟩) (r := (some a21)) rfl ⟨_, rfl, hF⟩ dX1_newGrave_99
    · have hF := hF.2.2.2.2 hk
      refine lv_tableIn (tgt := 100) hx hb dX1_newGrave_2 (by rw [hk]; decide) (by rw [hk]; decide) (by rw [hk]; rfl) (by decide) ?_
      obtain ⟨hc1, hF⟩ := hF
      obtain ⟨hs1, hF⟩ := hF
      refine zc_new X hH hB (ci := 11) rfl (n := 16) q802 q803 q119 (by decide) hc1 hs1 dX1_newGrave_100 (fun a26 h27 H hza26 eh27 hH hB => ?_)
      have hF := hF a26 h27 hza26 eh27
      refine lv_dup hx hb dX1_newGrave_103 rfl ?_
      refine lv_iload_n hx hb dX1_newGrave_104 rfl (lv_at hl 0 rfl) ?_
      refine lv_iload_n hx hb dX1_newGrave_105 rfl (lv_at hl 1 rfl) ?_
      refine lv_iload_n hx hb dX1_newGrave_106 rfl (lv_at hl 2 rfl) ?_
      refine lv_iload_n hx hb dX1_newGrave_107 rfl (lv_at hl 3 rfl) ?_
      refine lv_iload hx hb dX1_newGrave_108 (lv_at hl 5 rfl) ?_
      refine lv_iload hx hb dX1_newGrave_110 (lv_at hl 6 rfl) ?_
      obtain ⟨c28, s29, hc1, hs1, hF⟩ := hF
      refine zc_call (c1 := c28) (s1 := s29) (rest := [.ref a26]) hH hB hc1 hs1 (fun hf => zc_rI X hH (As := [.int v0, .int v1, .int v2, .int v3, .int v5, .int v6]) (wc_X14_init X.2.2.2.2.2.2.2.1 hF) (lw_meth q806) q804 q119 q805 rfl ⟨by decide, by decide, rfl⟩ ⟨Nat.le_of_ble_eq_true rfl, Nat.le_of_ble_eq_true rfl, Nat.le_of_ble_eq_true rfl⟩ rfl hl.1 (st0 := [.int v6, .int v5, .int v3, .int v2, .int v1, .int v0, .ref a26, .ref a26]) rfl (Nat.le_of_ble_eq_true rfl) dX1_newGrave_112 hf) (fun E9 ce9 q9 h9 H locs hx9 => False.elim hx9) (fun v9 h30 H locs hv9 hH hB => ?_)
      obtain ⟨rfl, hF⟩ := hv9
      exact zc_aret X hH hB rfl (by first | exact Or.inl ⟨_, rfl⟩ | exact Or.inr ⟨_, rfl⟩) (r := (some a26)) rfl ⟨_, rfl, hF⟩ dX1_newGrave_115
set_option maxHeartbeats 4000000 in
set_option maxRecDepth 100000 in
theorem wc_X1_isWide_19 {p : Program} {l : Launch} {e : Env} {s : State} {m : MethodId} {args : Array Value} {below : List Frame} {meth : Method} {c : Code} {D : va_G} {cA : Nat → ClassId} {P : Nat → Prop} {G : Nat × Nat × Nat} {C S : Nat} {Q : Int32 → Prop} {h0 : ZH} (X : zc_Cx p l s m args meth c cX1_isWide 2 (some .boolean) "ChurchyardBook" D cA P G) (hN : meth.name = "isWide") (hT : c.exceptionTable.toList = tableOf []) :
    ∀ (h : ZH), fc_X1_isWide_19 G Q h → ∀ (H : Heap) (locs : List Loc) (ls : Array Slot) (cells slots : Nat), cells + 0 ≤ C ∧ slots + 0 ≤ S → h0 = h → lv_has ls 2 [] → zc_H D cA P h s H locs → W p l e (zc_Ro 1 C S) s m args below meth c H locs cells slots (vx_MQ below (zc_Q D cA P (fun v h' => ∃ z : Int32, v = some (.int z) ∧ Q z ∧ h0 = h')) (zc_X D cA P zc_no) args s C S P) (F0 m 19 ls []) := by
  have hx := X.1
  have hb := X.2.1
  have hown := X.2.2.2.1
  have hts := X.2.2.2.2.1
  intro h hF
  intro H locs ls cells slots hB eh hl hH
  unfold fc_X1_isWide_19 at hF
  refine lv_iconst (v := 0) hx hb dX1_isWide_19 (by decide) ?_
  refine lv_goto (tgt := 51) hx hb dX1_isWide_20 (by decide) ?_
  exact zc_iret X hH hB rfl rfl ⟨_, rfl, hF, eh⟩ dX1_isWide_51
set_option maxHeartbeats 4000000 in
set_option maxRecDepth 100000 in
theorem wc_X1_isWide {l : Launch} {D : va_G} {cA : Nat → ClassId} {P : Nat → Prop} {G : Nat × Nat × Nat} {Q : Int32 → Prop} {h : ZH} {C S : Nat} {v0 : Int32} {v1 : Int32} (hl9 : l.stackTraces = false) (hF : fc_X1_isWide G Q h v0 v1) :
    zc_M l yX1_isWide (ws_ yX1_isWide cX1_isWide 2 (some .boolean)) 1 D cA P G [.int v0, .int v1] h C S (fun v h' => ∃ z : Int32, v = some (.int z) ∧ Q z ∧ h = h') zc_no := by
  refine zc_ofF hl9 rfl (by decide +kernel) (Nat.le_of_ble_eq_true rfl) ?_
  intro p e s m args below meth c H locs ls X hN hT hH hl
  have hx := X.1
  have hb := X.2.1
  have hown := X.2.2.2.1
  have hts := X.2.2.2.2.1
  have hl : lv_has ls 2 [(0, .int v0), (1, .int v1)] := hl
  have hB : 0 + 0 ≤ C ∧ 0 + 0 ≤ S := ⟨by omega, by omega⟩
  have eh : h = h := rfl
  unfold fc_X1_isWide at hF
  refine lv_iload_n hx hb dX1_isWide_0 rfl (lv_at hl 0 rfl) ?_
  refine lv_iconst (v := 3) hx hb dX1_isWide_1 (by decide) ?_
  refine lv_icmp_ne (tgt := 23) hx hb dX1_isWide_2 (by decide) (fun cd => ?_) (fun cd => ?_)
  · have hF := hF.1 cd
    refine lv_iload_n hx hb dX1_isWide_23 rfl (lv_at hl 0 rfl) ?_
    refine lv_iconst (v := 5) hx hb dX1_isWide_24 (by decide) ?_
    refine lv_icmp_ne (tgt := 41) hx hb dX1_isWide_25 (by decide) (fun cd => ?_) (fun cd => ?_)
    · have hF := hF.1 cd
      refine lv_iload_n hx hb dX1_isWide_41 rfl (lv_at hl 1 rfl) ?_
      refine lv_iconst (v := 1) hx hb dX1_isWide_42 (by decide) ?_
      refine lv_icmp_ne (tgt := 50) hx hb dX1_isWide_43 (by decide) (fun cd => ?_) (fun cd => ?_)
      · have hF := hF.1 cd
        refine lv_iconst (v := 0) hx hb dX1_isWide_50 (by decide) ?_
        exact zc_iret X hH hB rfl rfl ⟨_, rfl, hF, eh⟩ dX1_isWide_51
      · have hF := hF.2 cd
        refine lv_iconst (v := 1) hx hb dX1_isWide_46 (by decide) ?_
        refine lv_goto (tgt := 51) hx hb dX1_isWide_47 (by decide) ?_
        exact zc_iret X hH hB rfl rfl ⟨_, rfl, hF, eh⟩ dX1_isWide_51
    · have hF := hF.2 cd
      refine lv_iload_n hx hb dX1_isWide_28 rfl (lv_at hl 1 rfl) ?_
      refine lv_iconst (v := 3) hx hb dX1_isWide_29 (by decide) ?_
      refine lv_icmp_ne (tgt := 37) hx hb dX1_isWide_30 (by decide) (fun cd => ?_) (fun cd => ?_)
      · have hF := hF.1 cd
        refine lv_iconst (v := 0) hx hb dX1_isWide_37 (by decide) ?_
        refine lv_goto (tgt := 51) hx hb dX1_isWide_38 (by decide) ?_
        exact zc_iret X hH hB rfl rfl ⟨_, rfl, hF, eh⟩ dX1_isWide_51
      · have hF := hF.2 cd
        refine lv_iconst (v := 1) hx hb dX1_isWide_33 (by decide) ?_
        refine lv_goto (tgt := 51) hx hb dX1_isWide_34 (by decide) ?_
        exact zc_iret X hH hB rfl rfl ⟨_, rfl, hF, eh⟩ dX1_isWide_51
  · have hF := hF.2 cd
    refine lv_iload_n hx hb dX1_isWide_5 rfl (lv_at hl 1 rfl) ?_
    refine lv_iconst (v := 2) hx hb dX1_isWide_6 (by decide) ?_
    refine lv_icmp_lt (tgt := 19) hx hb dX1_isWide_7 (by decide) (fun cd => ?_) (fun cd => ?_)
    · have hF := hF.1 cd
      exact wc_X1_isWide_19 X hN hT h hF _ _ _ _ _ hB eh (lv_sub hl [] rfl) hH
    · have hF := hF.2 cd
      refine lv_iload_n hx hb dX1_isWide_10 rfl (lv_at hl 1 rfl) ?_
      refine lv_iconst (v := 4) hx hb dX1_isWide_11 (by decide) ?_
      refine lv_icmp_gt (tgt := 19) hx hb dX1_isWide_12 (by decide) (fun cd => ?_) (fun cd => ?_)
      · have hF := hF.1 cd
        exact wc_X1_isWide_19 X hN hT h hF _ _ _ _ _ hB eh (lv_sub hl [] rfl) hH
      · have hF := hF.2 cd
        refine lv_iconst (v := 1) hx hb dX1_isWide_15 (by decide) ?_
        refine lv_goto (tgt := 51) hx hb dX1_isWide_16 (by decide) ?_
        exact zc_iret X hH hB rfl rfl ⟨_, rfl, hF, eh⟩ dX1_isWide_51
set_option maxHeartbeats 4000000 in
set_option maxRecDepth 100000 in
theorem wc_X7_init {l : Launch} {D : va_G} {cA : Nat → ClassId} {P : Nat → Prop} {G : Nat × Nat × Nat} {o : Nat} {Q : ZH → Prop} {h : ZH} {C S : Nat} {v1 : Int32} (hl9 : l.stackTraces = false) (hF : fc_X7_init G o Q h v1) :
    zc_M l yX7_init (ws_ yX7_init cX7_init 2 none) 2 D cA P G [.ref o, .int v1] h C S (fun v h' => v = none ∧ Q h') zc_no := by
  refine zc_ofF hl9 rfl (by decide +kernel) (Nat.le_of_ble_eq_true rfl) ?_
  intro p e s m args below meth c H locs ls X hN hT hH hl
  have hx := X.1
  have hb := X.2.1
  have hown := X.2.2.2.1
  have hts := X.2.2.2.2.1
  have hl : lv_has ls 2 [(0, .ref o), (1, .int v1)] := hl
  have hB : 0 + 0 ≤ C ∧ 0 + 0 ≤ S := ⟨by omega, by omega⟩
  unfold fc_X7_init at hF
  refine lv_aload_n hx hb dX7_init_0 rfl (lv_at hl 0 rfl) ?_
  obtain ⟨hc, hF⟩ := hF
  obtain ⟨hc2, hF⟩ := hF
  refine zx_excI X hH hB hl.1 hc hc2 rfl ⟨Nat.le_of_ble_eq_true rfl, Nat.le_of_ble_eq_true rfl⟩ (Nat.le_of_ble_eq_true rfl) dX7_init_1 (fun H locs hH => ?_)
  refine lv_aload_n hx hb dX7_init_4 rfl (lv_at hl 0 rfl) ?_
  refine lv_iload_n hx hb dX7_init_5 rfl (lv_at hl 1 rfl) ?_
  obtain ⟨hc, hF⟩ := hF
  refine zc_puti X hH hc 0 400 ("ChurchyardBook$Refused", "answer", "I", true) (by decide +kernel) rfl q328 (Or.inl rfl) (ty := .int) (by decide +kernel) rfl rfl (Or.inr ⟨rfl, hN, rfl⟩) dX7_init_6 (fun h1 H locs eh1 hH => ?_)
  have hF := hF h1 eh1
  exact zc_vret X hH hB rfl ⟨rfl, hF⟩ dX7_init_9
set_option maxHeartbeats 4000000 in
set_option maxRecDepth 100000 in
theorem wc_X1_need {l : Launch} {D : va_G} {cA : Nat → ClassId} {P : Nat → Prop} {G : Nat × Nat × Nat} {Q : Prop} {XE : String → Nat → ZH → Prop} {h : ZH} {C S : Nat} {v0 : Int32} {v1 : Int32} (hl9 : l.stackTraces = false) (hF : fc_X1_need G Q XE h C S v0 v1) :
    zc_M l yX1_need (ws_ yX1_need cX1_need 2 none) 3 D cA P G [.int v0, .int v1] h C S (fun v h' => v = none ∧ Q ∧ h = h') XE := by
  refine zc_ofF hl9 rfl (by decide +kernel) (Nat.le_of_ble_eq_true rfl) ?_
  intro p e s m args below meth c H locs ls X hN hT hH hl
  have hx := X.1
  have hb := X.2.1
  have hown := X.2.2.2.1
  have hts := X.2.2.2.2.1
  have hl : lv_has ls 2 [(0, .int v0), (1, .int v1)] := hl
  have hB : 0 + C ≤ C ∧ 0 + S ≤ S := ⟨by omega, by omega⟩
  have eh : h = h := rfl
  unfold fc_X1_need at hF
  refine lv_iload_n hx hb dX1_need_0 rfl (lv_at hl 0 rfl) ?_
  refine lv_if_ne (tgt := 13) hx hb dX1_need_1 (by decide) (fun cd => ?_) (fun cd => ?_)
  · have hF := hF.1 cd
    exact zc_vret X hH hB rfl ⟨rfl, hF, eh⟩ dX1_need_13
  · have hF := hF.2 cd
    obtain ⟨hc1, hF⟩ := hF
    obtain ⟨hs1, hF⟩ := hF
    refine zc_new X hH hB (ci := 5) rfl (n := 7) q258 q266 q98 (by decide) hc1 hs1 dX1_need_4 (fun a1 h2 H hza1 eh2 hH hB => ?_)
    have hF := hF a1 h2 hza1 eh2
    refine lv_dup hx hb dX1_need_7 rfl ?_
    refine lv_iload_n hx hb dX1_need_8 rfl (lv_at hl 1 rfl) ?_
    refine zc_call (c1 := 0) (s1 := 0) (rest := [.ref a1]) hH hB (Nat.zero_le _) (Nat.zero_le _) (fun hf => zc_rI X hH (As := [.int v1]) (wc_X7_init X.2.2.2.2.2.2.2.1 hF) (lw_meth q323) q321 q98 q322 rfl ⟨by decide, by decide, rfl⟩ ⟨Nat.le_of_ble_eq_true rfl, Nat.le_of_ble_eq_true rfl, Nat.le_of_ble_eq_true rfl⟩ rfl hl.1 (st0 := [.int v1, .ref a1, .ref a1]) rfl (Nat.le_of_ble_eq_true rfl) dX1_need_9 hf) (fun E9 ce9 q9 h9 H locs hx9 => False.elim hx9) (fun v9 h3 H locs hv9 hH hB => ?_)
    obtain ⟨rfl, hF⟩ := hv9
    obtain ⟨hc, hF⟩ := hF
    obtain ⟨ce9, hce, hcv, hcl⟩ := zc_cell X hH (a := a1) (by rw [hc]; decide)
    rw [hc] at hcl
    refine vx_athrow hx hb dX1_need_12 ?_
    exact zc_out X hH hB (by rw [hT]; intro x hx9; cases hx9) hce hcv hcl hF
set_option maxHeartbeats 4000000 in
set_option maxRecDepth 100000 in
theorem wc_J2_size {l : Launch} {D : va_G} {cA : Nat → ClassId} {P : Nat → Prop} {G : Nat × Nat × Nat} {o : Nat} {Q : Int32 → Prop} {h : ZH} {C S : Nat} (hl9 : l.stackTraces = false) (hF : fc_J2_size G o Q h) :
    zc_M l yJ2_size (ws_ yJ2_size cJ2_size 1 (some .int)) 1 D cA P G [.ref o] h C S (fun v h' => ∃ z : Int32, v = some (.int z) ∧ Q z ∧ h = h') zc_no := by
  refine zc_ofF hl9 rfl (by decide +kernel) (Nat.le_of_ble_eq_true rfl) ?_
  intro p e s m args below meth c H locs ls X hN hT hH hl
  have hx := X.1
  have hb := X.2.1
  have hown := X.2.2.2.1
  have hts := X.2.2.2.2.1
  have hl : lv_has ls 1 [(0, .ref o)] := hl
  have hB : 0 + 0 ≤ C ∧ 0 + 0 ≤ S := ⟨by omega, by omega⟩
  have eh : h = h := rfl
  unfold fc_J2_size at hF
  refine lv_aload_n hx hb dJ2_size_0 rfl (lv_at hl 0 rfl) ?_
  obtain ⟨hc, hF⟩ := hF
  refine zc_getf X hH hc 2 302 ("java/util/ArrayList", "size", "I", false) (by decide +kernel) (v := .int (zi h 302 o)) rfl q172 (Or.inl rfl) dJ2_size_1 ?_
  exact zc_iret X hH hB rfl rfl ⟨_, rfl, hF, eh⟩ dJ2_size_4
set_option maxHeartbeats 4000000 in
set_option maxRecDepth 100000 in
theorem wc_X8_init {l : Launch} {D : va_G} {cA : Nat → ClassId} {P : Nat → Prop} {G : Nat × Nat × Nat} {o : Nat} {Q : ZH → Prop} {h : ZH} {C S : Nat} {v1 : Int32} (hl9 : l.stackTraces = false) (hF : fc_X8_init G o Q h C S v1) :
    zc_M l yX8_init (ws_ yX8_init cX8_init 2 none) 1 D cA P G [.ref o, .int v1] h C S (fun v h' => v = none ∧ Q h') zc_no := by
  refine zc_ofF hl9 rfl (by decide +kernel) (Nat.le_of_ble_eq_true rfl) ?_
  intro p e s m args below meth c H locs ls X hN hT hH hl
  have hx := X.1
  have hb := X.2.1
  have hown := X.2.2.2.1
  have hts := X.2.2.2.2.1
  have hl : lv_has ls 2 [(0, .ref o), (1, .int v1)] := hl
  have hB : 0 + C ≤ C ∧ 0 + S ≤ S := ⟨by omega, by omega⟩
  unfold fc_X8_init at hF
  refine lv_aload_n hx hb dX8_init_0 rfl (lv_at hl 0 rfl) ?_
  refine zc_objI X hl.1 q358 ⟨Nat.le_of_ble_eq_true rfl, Nat.le_of_ble_eq_true rfl⟩ (Nat.le_of_ble_eq_true rfl) dX8_init_1 ?_
  refine lv_aload_n hx hb dX8_init_4 rfl (lv_at hl 0 rfl) ?_
  refine lv_bipush (v := 12) hx hb dX8_init_5 (by decide) ?_
  obtain ⟨hI, hF⟩ := hF
  obtain ⟨hJ, hF⟩ := hF
  obtain ⟨hc1, hF⟩ := hF
  obtain ⟨hs1, hF⟩ := hF
  refine zc_newP X hH hB q359 (zc_aoP X) hI hJ hc1 hs1 dX8_init_7 (fun a1 h2 H hza1 eh2 hH hB => ?_)
  have hF := hF a1 h2 hza1 eh2
  obtain ⟨hc, hF⟩ := hF
  refine zc_putr X hH hc 1 501 ("ChurchyardBook$Field", "rows", "[[LChurchyardBook$Place;", true) (by decide +kernel) rfl q364 (Or.inl rfl) (x := (some a1)) rfl (ty := (.array (.array (.object "ChurchyardBook$Place")))) (by decide +kernel) rfl (Or.inr ⟨rfl, hN, rfl⟩) dX8_init_10 (fun h3 H locs eh3 hH => ?_)
  have hF := hF h3 eh3
  refine lv_aload_n hx hb dX8_init_13 rfl (lv_at hl 0 rfl) ?_
  refine lv_iload_n hx hb dX8_init_14 rfl (lv_at hl 1 rfl) ?_
  obtain ⟨hc, hF⟩ := hF
  refine zc_puti X hH hc 0 500 ("ChurchyardBook$Field", "ground", "I", true) (by decide +kernel) rfl q362 (Or.inl rfl) (ty := .int) (by decide +kernel) rfl rfl (Or.inr ⟨rfl, hN, rfl⟩) dX8_init_15 (fun h4 H locs eh4 hH => ?_)
  have hF := hF h4 eh4
  exact zc_vret X hH hB rfl ⟨rfl, hF⟩ dX8_init_18
set_option maxHeartbeats 4000000 in
set_option maxRecDepth 100000 in
theorem wc_J6_max {l : Launch} {D : va_G} {cA : Nat → ClassId} {P : Nat → Prop} {G : Nat × Nat × Nat} {Q : Int32 → Prop} {h : ZH} {C S : Nat} {v0 : Int32} {v1 : Int32} (hl9 : l.stackTraces = false) (hF : fc_J6_max G Q h v0 v1) :
    zc_M l yJ6_max (ws_ yJ6_max cJ6_max 2 (some .int)) 1 D cA P G [.int v0, .int v1] h C S (fun v h' => ∃ z : Int32, v = some (.int z) ∧ Q z ∧ h = h') zc_no := by
  refine zc_ofF hl9 rfl (by decide +kernel) (Nat.le_of_ble_eq_true rfl) ?_
  intro p e s m args below meth c H locs ls X hN hT hH hl
  have hx := X.1
  have hb := X.2.1
  have hown := X.2.2.2.1
  have hts := X.2.2.2.2.1
  have hl : lv_has ls 2 [(0, .int v0), (1, .int v1)] := hl
  have hB : 0 + 0 ≤ C ∧ 0 + 0 ≤ S := ⟨by omega, by omega⟩
  have eh : h = h := rfl
  unfold fc_J6_max at hF
  refine lv_iload_n hx hb dJ6_max_0 rfl (lv_at hl 0 rfl) ?_
  refine lv_iload_n hx hb dJ6_max_1 rfl (lv_at hl 1 rfl) ?_
  refine lv_icmp_lt (tgt := 9) hx hb dJ6_max_2 (by decide) (fun cd => ?_) (fun cd => ?_)
  · have hF := hF.1 cd
    refine lv_iload_n hx hb dJ6_max_9 rfl (lv_at hl 1 rfl) ?_
    exact zc_iret X hH hB rfl rfl ⟨_, rfl, hF, eh⟩ dJ6_max_10
  · have hF := hF.2 cd
    refine lv_iload_n hx hb dJ6_max_5 rfl (lv_at hl 0 rfl) ?_
    refine lv_goto (tgt := 10) hx hb dJ6_max_6 (by decide) ?_
    exact zc_iret X hH hB rfl rfl ⟨_, rfl, hF, eh⟩ dJ6_max_10
set_option maxHeartbeats 4000000 in
set_option maxRecDepth 100000 in
theorem wc_J5_newLength {l : Launch} {D : va_G} {cA : Nat → ClassId} {P : Nat → Prop} {G : Nat × Nat × Nat} {Q : Int32 → Prop} {h : ZH} {C S : Nat} {v0 : Int32} {v1 : Int32} {v2 : Int32} (hl9 : l.stackTraces = false) (hF : fc_J5_newLength G Q h v0 v1 v2) :
    zc_M l yJ5_newLength (ws_ yJ5_newLength cJ5_newLength 4 (some .int)) 2 D cA P G [.int v0, .int v1, .int v2] h C S (fun v h' => ∃ z : Int32, v = some (.int z) ∧ Q z ∧ h = h') zc_no := by
  refine zc_ofF hl9 rfl (by decide +kernel) (Nat.le_of_ble_eq_true rfl) ?_
  intro p e s m args below meth c H locs ls X hN hT hH hl
  have hx := X.1
  have hb := X.2.1
  have hown := X.2.2.2.1
  have hts := X.2.2.2.2.1
  have hl : lv_has ls 4 [(0, .int v0), (1, .int v1), (2, .int v2)] := hl
  have hB : 0 + 0 ≤ C ∧ 0 + 0 ≤ S := ⟨by omega, by omega⟩
  have eh : h = h := rfl
  unfold fc_J5_newLength at hF
  refine lv_iload_n hx hb dJ5_newLength_0 rfl (lv_at hl 0 rfl) ?_
  refine lv_iload_n hx hb dJ5_newLength_1 rfl (lv_at hl 1 rfl) ?_
  refine lv_iload_n hx hb dJ5_newLength_2 rfl (lv_at hl 2 rfl) ?_
  refine zc_call (c1 := 0) (s1 := 0) (rest := [.int v0]) hH hB (Nat.zero_le _) (Nat.zero_le _) (fun hf => zc_rS X hH (As := [.int v1, .int v2]) (wc_J6_max X.2.2.2.2.2.2.2.1 hF) (lw_S q395 q396 q101 q397) ⟨by decide, by decide, rfl⟩ ⟨Nat.le_of_ble_eq_true rfl, Nat.le_of_ble_eq_true rfl, Nat.le_of_ble_eq_true rfl⟩ rfl hl.1 (st0 := [.int v2, .int v1, .int v0]) rfl (Nat.le_of_ble_eq_true rfl) dJ5_newLength_3 hf) (fun E9 ce9 q9 h9 H locs hx9 => False.elim hx9) (fun v9 h9 H locs hv9 hH hB => ?_)
  obtain ⟨z1, rfl, hF, rfl⟩ := hv9
  refine lv_iadd hx hb dJ5_newLength_6 ?_
  refine lv_topi (fun x2 ex2 => ?_)
  have hF := hF x2 ex2
  refine lv_istore_n (lv' := [(3, .int x2), (0, .int v0), (1, .int v1), (2, .int v2)]) hx hb dJ5_newLength_7 rfl hl (by decide) rfl (fun ls hl => ?_)
  refine lv_iconst (v := 0) hx hb dJ5_newLength_8 (by decide) ?_
  refine lv_iload_n hx hb dJ5_newLength_9 rfl (lv_at hl 0 rfl) ?_
  refine lv_icmp_ge (tgt := 21) hx hb dJ5_newLength_10 (by decide) (fun cd => ?_) (fun cd => ?_)
  · have hF := hF.1 cd
    exact False.elim hF
  · have hF := hF.2 cd
    refine lv_iload_n hx hb dJ5_newLength_13 rfl (lv_at hl 0 rfl) ?_
    refine lv_ldc (v := 2147483639) hx hb hown (hts _ q398) dJ5_newLength_14 ?_
    refine lv_icmp_gt (tgt := 21) hx hb dJ5_newLength_16 (by decide) (fun cd => ?_) (fun cd => ?_)
    · have hF := hF.1 cd
      exact False.elim hF
    · have hF := hF.2 cd
      refine lv_iload_n hx hb dJ5_newLength_19 rfl (lv_at hl 0 rfl) ?_
      exact zc_iret X hH hB rfl rfl ⟨_, rfl, hF, eh⟩ dJ5_newLength_20
set_option maxHeartbeats 4000000 in
set_option maxRecDepth 100000 in
theorem wc_J6_min {l : Launch} {D : va_G} {cA : Nat → ClassId} {P : Nat → Prop} {G : Nat × Nat × Nat} {Q : Int32 → Prop} {h : ZH} {C S : Nat} {v0 : Int32} {v1 : Int32} (hl9 : l.stackTraces = false) (hF : fc_J6_min G Q h v0 v1) :
    zc_M l yJ6_min (ws_ yJ6_min cJ6_min 2 (some .int)) 1 D cA P G [.int v0, .int v1] h C S (fun v h' => ∃ z : Int32, v = some (.int z) ∧ Q z ∧ h = h') zc_no := by
  refine zc_ofF hl9 rfl (by decide +kernel) (Nat.le_of_ble_eq_true rfl) ?_
  intro p e s m args below meth c H locs ls X hN hT hH hl
  have hx := X.1
  have hb := X.2.1
  have hown := X.2.2.2.1
  have hts := X.2.2.2.2.1
  have hl : lv_has ls 2 [(0, .int v0), (1, .int v1)] := hl
  have hB : 0 + 0 ≤ C ∧ 0 + 0 ≤ S := ⟨by omega, by omega⟩
  have eh : h = h := rfl
  unfold fc_J6_min at hF
  refine lv_iload_n hx hb dJ6_min_0 rfl (lv_at hl 0 rfl) ?_
  refine lv_iload_n hx hb dJ6_min_1 rfl (lv_at hl 1 rfl) ?_
  refine lv_icmp_gt (tgt := 9) hx hb dJ6_min_2 (by decide) (fun cd => ?_) (fun cd => ?_)
  · have hF := hF.1 cd
    refine lv_iload_n hx hb dJ6_min_9 rfl (lv_at hl 1 rfl) ?_
    exact zc_iret X hH hB rfl rfl ⟨_, rfl, hF, eh⟩ dJ6_min_10
  · have hF := hF.2 cd
    refine lv_iload_n hx hb dJ6_min_5 rfl (lv_at hl 0 rfl) ?_
    refine lv_goto (tgt := 10) hx hb dJ6_min_6 (by decide) ?_
    exact zc_iret X hH hB rfl rfl ⟨_, rfl, hF, eh⟩ dJ6_min_10
set_option maxHeartbeats 4000000 in
set_option maxRecDepth 100000 in
theorem wc_J7_copyOf_2_24 {p : Program} {l : Launch} {e : Env} {s : State} {m : MethodId} {args : Array Value} {below : List Frame} {meth : Method} {c : Code} {D : va_G} {cA : Nat → ClassId} {P : Nat → Prop} {G : Nat × Nat × Nat} {C S : Nat} {Q : Option Nat → ZH → Prop} (X : zc_Cx p l s m args meth c cJ7_copyOf_2 4 (some (.array (.object "java/lang/Object"))) "java/util/Arrays" D cA P G) (hN : meth.name = "copyOf") (hT : c.exceptionTable.toList = tableOf []) :
    ∀ (h : ZH) (bc bs : Nat) (q0 : Option Nat) (v1 : Int32) (u0 : Option Nat), fc_J7_copyOf_2_24 G Q h bc bs q0 v1 u0 → ∀ (H : Heap) (locs : List Loc) (ls : Array Slot) (cells slots : Nat), cells + bc ≤ C ∧ slots + bs ≤ S → lv_has ls 4 [(0, va_rf q0), (1, .int v1)] → zc_H D cA P h s H locs → W p l e (zc_Ro 2 C S) s m args below meth c H locs cells slots (vx_MQ below (zc_Q D cA P (fun v h' => ∃ z : Option Nat, v = some (va_rf z) ∧ Q z h')) (zc_X D cA P zc_no) args s C S P) (F0 m 24 ls [va_rf u0]) := by
  have hx := X.1
  have hb := X.2.1
  have hown := X.2.2.2.1
  have hts := X.2.2.2.2.1
  intro h bc bs q0 v1 u0 hF
  intro H locs ls cells slots hB hl hH
  unfold fc_J7_copyOf_2_24 at hF
  refine zq_astore_n (r := u0) (lv' := [(3, va_rf u0), (0, va_rf q0), (1, .int v1)]) hx hb rfl dJ7_copyOf_2_24 rfl hl (by decide) rfl (fun ls hl => ?_)
  refine zq_aload_n hx hb dJ7_copyOf_2_25 rfl (lv_at hl 1 rfl) ?_
  refine lv_iconst (v := 0) hx hb dJ7_copyOf_2_26 (by decide) ?_
  refine zq_aload_n hx hb dJ7_copyOf_2_27 rfl (lv_at hl 0 rfl) ?_
  refine lv_iconst (v := 0) hx hb dJ7_copyOf_2_28 (by decide) ?_
  refine zq_aload_n hx hb dJ7_copyOf_2_29 rfl (lv_at hl 1 rfl) ?_
  obtain ⟨b1, eb1, hF⟩ := hF
  refine zq_st (st2 := [.ref b1, .int 0, va_rf u0, .int 0, va_rf q0]) (by rw [eb1]; first | done | rfl) ?_
  obtain ⟨hc, hF⟩ := hF
  refine zc_alen X hH hc dJ7_copyOf_2_30 ?_
  refine lv_iload_n hx hb dJ7_copyOf_2_31 rfl (lv_at hl 2 rfl) ?_
  refine zc_call (c1 := 0) (s1 := 0) (rest := [.int 0, va_rf u0, .int 0, va_rf q0]) hH hB (Nat.zero_le _) (Nat.zero_le _) (fun hf => zc_rS X hH (As := [.int (nI (zl h b1)), .int v1]) (wc_J6_min X.2.2.2.2.2.2.2.1 hF) (lw_S q436 q437 q101 q438) ⟨by decide, by decide, rfl⟩ ⟨Nat.le_of_ble_eq_true rfl, Nat.le_of_ble_eq_true rfl, Nat.le_of_ble_eq_true rfl⟩ rfl hl.1 (st0 := [.int v1, .int (nI (zl h b1)), .int 0, va_rf u0, .int 0, va_rf q0]) rfl (by simp only [List.map_cons, List.map_nil, List.sum_cons, List.sum_nil, zc_k1]; exact Nat.le_of_ble_eq_true rfl) dJ7_copyOf_2_32 hf) (fun E9 ce9 q9 h9 H locs hx9 => False.elim hx9) (fun v9 h9 H locs hv9 hH hB => ?_)
  obtain ⟨z2, rfl, hF, rfl⟩ := hv9
  obtain ⟨b3, eb3, hF⟩ := hF
  refine zq_st (st2 := [.int z2, .int 0, .ref b3, .int 0, va_rf q0]) (by rw [eb3]; first | done | rfl) ?_
  refine zq_st (st2 := [.int z2, .int 0, .ref b3, .int 0, .ref b1]) (by rw [eb1]; first | done | rfl) ?_
  obtain ⟨ha1, hF⟩ := hF
  obtain ⟨ha2, hF⟩ := hF
  obtain ⟨ha3, hF⟩ := hF
  obtain ⟨ha4, hF⟩ := hF
  obtain ⟨ha5, hF⟩ := hF
  obtain ⟨h4, eh4⟩ : ∃ z : ZH, z = zcps h 2 b1 (0 : Int32).toNatClampNeg b3 (0 : Int32).toNatClampNeg z2.toNatClampNeg := ⟨_, rfl⟩
  have hF := hF h4 eh4
  refine zc_copy (R := zc_Ro 2 C S) (rest := []) X hH hl.1 q439 q249 q248 q103 2 (by decide) ha1 ha2 ha3 ha4.1 ha4.2.1 ha4.2.2.1 ha4.2.2.2.1 ha4.2.2.2.2 (fun _ => ha5) (h' := h4) eh4 (Nat.le_of_ble_eq_true rfl) (Nat.le_of_ble_eq_true rfl) dJ7_copyOf_2_35 (fun H locs hH => ?_)
  refine zq_aload_n hx hb dJ7_copyOf_2_38 rfl (lv_at hl 0 rfl) ?_
  exact zc_aret X hH hB rfl (by first | exact Or.inl ⟨_, rfl⟩ | exact Or.inr ⟨_, rfl⟩) (r := u0) rfl ⟨_, rfl, hF⟩ dJ7_copyOf_2_39
set_option maxHeartbeats 4000000 in
set_option maxRecDepth 100000 in
theorem wc_J7_copyOf_2 {l : Launch} {D : va_G} {cA : Nat → ClassId} {P : Nat → Prop} {G : Nat × Nat × Nat} {Q : Option Nat → ZH → Prop} {h : ZH} {C S : Nat} {q0 : Option Nat} {v1 : Int32} {q2 : Option Nat} (hl9 : l.stackTraces = false) (hF : fc_J7_copyOf_2 G Q h C S q0 v1 q2) :
    zc_M l yJ7_copyOf_2 (ws_ yJ7_copyOf_2 cJ7_copyOf_2 4 (some (.array (.object "java/lang/Object")))) 2 D cA P G [va_rf q0, .int v1, va_rf q2] h C S (fun v h' => ∃ z : Option Nat, v = some (va_rf z) ∧ Q z h') zc_no := by
  refine zc_ofF hl9 rfl (by decide +kernel) (zc_slle (by simp [zc_k1, zc_kI, zc_kR]) (Nat.le_of_ble_eq_true rfl)) ?_
  intro p e s m args below meth c H locs ls X hN hT hH hl
  have hx := X.1
  have hb := X.2.1
  have hown := X.2.2.2.1
  have hts := X.2.2.2.2.1
  have hl : lv_has ls 4 [(0, va_rf q0), (1, .int v1), (2, va_rf q2)] := by
    have h9 := hl
    rw [zc_ags _ (by simp [zc_k1, zc_kI, zc_kR]) 0] at h9
    exact h9
  have hB : 0 + C ≤ C ∧ 0 + S ≤ S := ⟨by omega, by omega⟩
  unfold fc_J7_copyOf_2 at hF
  refine zq_aload_n hx hb dJ7_copyOf_2_0 rfl (lv_at hl 2 rfl) ?_
  refine zc_ldcM X q434 dJ7_copyOf_2_1 ?_
  refine lv_acmp_ne (rx := q2) (ry := (some G.2.2)) (tgt := 13) hx hb dJ7_copyOf_2_3 (by decide) (fun cd => ?_) (fun cd => ?_)
  · have hF := hF.1 cd
    exact False.elim hF
  · have hF := hF.2 cd
    refine lv_iload_n hx hb dJ7_copyOf_2_6 rfl (lv_at hl 1 rfl) ?_
    obtain ⟨hI, hF⟩ := hF
    obtain ⟨hJ, hF⟩ := hF
    obtain ⟨hc1, hF⟩ := hF
    obtain ⟨hs1, hF⟩ := hF
    refine zc_newq X hH hB 2 "java/lang/Object" ⟨by decide, by decide, rfl⟩ (by simp) q435 hI hJ hc1 hs1 dJ7_copyOf_2_7 (fun a1 h2 H hza1 eh2 hH hB => ?_)
    have hF := hF a1 h2 hza1 eh2
    refine lv_goto (tgt := 24) hx hb dJ7_copyOf_2_10 (by decide) ?_
    exact wc_J7_copyOf_2_24 X hN hT h2 (C - 1) (S - v1.toNatClampNeg) q0 v1 (some a1) hF _ _ _ _ _ hB (lv_sub hl [0, 1] rfl) hH
set_option maxHeartbeats 4000000 in
set_option maxRecDepth 100000 in
theorem wc_J7_copyOf {l : Launch} {D : va_G} {cA : Nat → ClassId} {P : Nat → Prop} {G : Nat × Nat × Nat} {Q : Option Nat → ZH → Prop} {h : ZH} {C S : Nat} {q0 : Option Nat} {v1 : Int32} (hl9 : l.stackTraces = false) (hF : fc_J7_copyOf G Q h C S q0 v1) :
    zc_M l yJ7_copyOf (ws_ yJ7_copyOf cJ7_copyOf 2 (some (.array (.object "java/lang/Object")))) 3 D cA P G [va_rf q0, .int v1] h C S (fun v h' => ∃ z : Option Nat, v = some (va_rf z) ∧ Q z h') zc_no := by
  refine zc_ofF hl9 rfl (by decide +kernel) (zc_slle (by simp [zc_k1, zc_kI, zc_kR]) (Nat.le_of_ble_eq_true rfl)) ?_
  intro p e s m args below meth c H locs ls X hN hT hH hl
  have hx := X.1
  have hb := X.2.1
  have hown := X.2.2.2.1
  have hts := X.2.2.2.2.1
  have hl : lv_has ls 2 [(0, va_rf q0), (1, .int v1)] := by
    have h9 := hl
    rw [zc_ags _ (by simp [zc_k1, zc_kI, zc_kR]) 0] at h9
    exact h9
  have hB : 0 + C ≤ C ∧ 0 + S ≤ S := ⟨by omega, by omega⟩
  unfold fc_J7_copyOf at hF
  refine zq_aload_n hx hb dJ7_copyOf_0 rfl (lv_at hl 0 rfl) ?_
  refine lv_iload_n hx hb dJ7_copyOf_1 rfl (lv_at hl 1 rfl) ?_
  refine zq_aload_n hx hb dJ7_copyOf_2 rfl (lv_at hl 0 rfl) ?_
  obtain ⟨b1, eb1, hF⟩ := hF
  refine zq_st (st2 := [.ref b1, .int v1, va_rf q0]) (by rw [eb1]; first | done | rfl) ?_
  obtain ⟨hc, hF⟩ := hF
  refine zc_getC (R := zc_Ro 3 C S) (rest := [.int v1, va_rf q0]) X hH hl.1 hc q405 q2292 q406 q430 (Nat.le_of_ble_eq_true rfl) (by simp only [List.map_cons, List.map_nil, List.sum_cons, List.sum_nil, zc_k1]; exact Nat.le_of_ble_eq_true rfl) dJ7_copyOf_3 ?_
  obtain ⟨c2, s3, hc1, hs1, hF⟩ := hF
  refine zc_call (c1 := c2) (s1 := s3) (rest := []) hH hB hc1 hs1 (fun hf => zc_rS X hH (As := [va_rf q0, .int v1, .ref G.2.2]) (wc_J7_copyOf_2 X.2.2.2.2.2.2.2.1 hF) (lw_S q431 q432 q102 q433) ⟨by decide, by decide, rfl⟩ ⟨Nat.le_of_ble_eq_true rfl, Nat.le_of_ble_eq_true rfl, Nat.le_of_ble_eq_true rfl⟩ rfl hl.1 (st0 := [.ref G.2.2, .int v1, va_rf q0]) rfl (Nat.le_of_ble_eq_true rfl) dJ7_copyOf_6 hf) (fun E9 ce9 q9 h9 H locs hx9 => False.elim hx9) (fun v9 h5 H locs hv9 hH hB => ?_)
  obtain ⟨r4, rfl, hF⟩ := hv9
  exact zc_aret X hH hB rfl (by first | exact Or.inl ⟨_, rfl⟩ | exact Or.inr ⟨_, rfl⟩) (r := r4) rfl ⟨_, rfl, hF⟩ dJ7_copyOf_9
set_option maxHeartbeats 4000000 in
set_option maxRecDepth 100000 in
theorem wc_J2_grow_2_20 {p : Program} {l : Launch} {e : Env} {s : State} {m : MethodId} {args : Array Value} {below : List Frame} {meth : Method} {c : Code} {D : va_G} {cA : Nat → ClassId} {P : Nat → Prop} {G : Nat × Nat × Nat} {C S : Nat} {o : Nat} {Q : Option Nat → ZH → Prop} (X : zc_Cx p l s m args meth c cJ2_grow_2 4 (some (.array (.object "java/lang/Object"))) "java/util/ArrayList" D cA P G) (hN : meth.name = "grow") (hT : c.exceptionTable.toList = tableOf []) :
    ∀ (h : ZH) (bc bs : Nat) (v1 : Int32) (v2 : Int32), fc_J2_grow_2_20 G o Q h bc bs v1 v2 → ∀ (H : Heap) (locs : List Loc) (ls : Array Slot) (cells slots : Nat), cells + bc ≤ C ∧ slots + bs ≤ S → lv_has ls 4 [(0, .ref o), (1, .int v1), (2, .int v2)] → zc_H D cA P h s H locs → W p l e (zc_Ro 4 C S) s m args below meth c H locs cells slots (vx_MQ below (zc_Q D cA P (fun v h' => ∃ z : Option Nat, v = some (va_rf z) ∧ Q z h')) (zc_X D cA P zc_no) args s C S P) (F0 m 20 ls []) := by
  have hx := X.1
  have hb := X.2.1
  have hown := X.2.2.2.1
  have hts := X.2.2.2.2.1
  intro h bc bs v1 v2 hF
  intro H locs ls cells slots hB hl hH
  unfold fc_J2_grow_2_20 at hF
  refine lv_iload_n hx hb dJ2_grow_2_20 rfl (lv_at hl 2 rfl) ?_
  refine lv_iload_n hx hb dJ2_grow_2_21 rfl (lv_at hl 1 rfl) ?_
  refine lv_iload_n hx hb dJ2_grow_2_22 rfl (lv_at hl 2 rfl) ?_
  refine lv_isub hx hb dJ2_grow_2_23 ?_
  refine lv_iload_n hx hb dJ2_grow_2_24 rfl (lv_at hl 2 rfl) ?_
  refine lv_iconst (v := 1) hx hb dJ2_grow_2_25 (by decide) ?_
  refine lv_ishr hx hb dJ2_grow_2_26 ?_
  refine zc_call (c1 := 0) (s1 := 0) (rest := []) hH hB (Nat.zero_le _) (Nat.zero_le _) (fun hf => zc_rS X hH (As := [.int v2, .int (v1 - v2), .int (v2 >>> (1 &&& 31))]) (wc_J5_newLength X.2.2.2.2.2.2.2.1 hF) (lw_S q392 q393 q100 q394) ⟨by decide, by decide, rfl⟩ ⟨Nat.le_of_ble_eq_true rfl, Nat.le_of_ble_eq_true rfl, Nat.le_of_ble_eq_true rfl⟩ rfl hl.1 (st0 := [.int (v2 >>> (1 &&& 31)), .int (v1 - v2), .int v2]) rfl (Nat.le_of_ble_eq_true rfl) dJ2_grow_2_27 hf) (fun E9 ce9 q9 h9 H locs hx9 => False.elim hx9) (fun v9 h9 H locs hv9 hH hB => ?_)
  obtain ⟨z1, rfl, hF, rfl⟩ := hv9
  refine lv_istore_n (lv' := [(3, .int z1), (0, .ref o), (1, .int v1), (2, .int v2)]) hx hb dJ2_grow_2_30 rfl hl (by decide) rfl (fun ls hl => ?_)
  refine lv_aload_n hx hb dJ2_grow_2_31 rfl (lv_at hl 1 rfl) ?_
  refine lv_aload_n hx hb dJ2_grow_2_32 rfl (lv_at hl 1 rfl) ?_
  obtain ⟨hc, hF⟩ := hF
  refine zc_getf X hH hc 1 301 ("java/util/ArrayList", "elementData", "[Ljava/lang/Object;", false) (by decide +kernel) (v := va_rf (zr h 301 o)) rfl q171 (Or.inl rfl) dJ2_grow_2_33 ?_
  refine lv_iload_n hx hb dJ2_grow_2_36 rfl (lv_at hl 0 rfl) ?_
  obtain ⟨c2, s3, hc1, hs1, hF⟩ := hF
  refine zc_call (c1 := c2) (s1 := s3) (rest := [.ref o]) hH hB hc1 hs1 (fun hf => zc_rS X hH (As := [va_rf (zr h 301 o), .int z1]) (wc_J7_copyOf X.2.2.2.2.2.2.2.1 hF) (lw_S q402 q403 q102 q404) ⟨by decide, by decide, rfl⟩ ⟨Nat.le_of_ble_eq_true rfl, Nat.le_of_ble_eq_true rfl, Nat.le_of_ble_eq_true rfl⟩ rfl hl.1 (st0 := [.int z1, va_rf (zr h 301 o), .ref o]) rfl (Nat.le_of_ble_eq_true rfl) dJ2_grow_2_37 hf) (fun E9 ce9 q9 h9 H locs hx9 => False.elim hx9) (fun v9 h5 H locs hv9 hH hB => ?_)
  obtain ⟨r4, rfl, hF⟩ := hv9
  refine lv_dup_x1 hx hb dJ2_grow_2_40 (by cases r4 <;> rfl) rfl ?_
  obtain ⟨hc, hF⟩ := hF
  refine zc_putr X hH hc 1 301 ("java/util/ArrayList", "elementData", "[Ljava/lang/Object;", false) (by decide +kernel) rfl q171 (Or.inl rfl) (x := r4) rfl (ty := (.array (.object "java/lang/Object"))) (by decide +kernel) rfl (Or.inl rfl) dJ2_grow_2_41 (fun h6 H locs eh6 hH => ?_)
  have hF := hF h6 eh6
  exact zc_aret X hH hB rfl (by first | exact Or.inl ⟨_, rfl⟩ | exact Or.inr ⟨_, rfl⟩) (r := r4) rfl ⟨_, rfl, hF⟩ dJ2_grow_2_44
set_option maxHeartbeats 4000000 in
set_option maxRecDepth 100000 in
theorem wc_J2_grow_2 {l : Launch} {D : va_G} {cA : Nat → ClassId} {P : Nat → Prop} {G : Nat × Nat × Nat} {o : Nat} {Q : Option Nat → ZH → Prop} {h : ZH} {C S : Nat} {v1 : Int32} (hl9 : l.stackTraces = false) (hF : fc_J2_grow_2 G o Q h C S v1) :
    zc_M l yJ2_grow_2 (ws_ yJ2_grow_2 cJ2_grow_2 4 (some (.array (.object "java/lang/Object")))) 4 D cA P G [.ref o, .int v1] h C S (fun v h' => ∃ z : Option Nat, v = some (va_rf z) ∧ Q z h') zc_no := by
  refine zc_ofF hl9 rfl (by decide +kernel) (Nat.le_of_ble_eq_true rfl) ?_
  intro p e s m args below meth c H locs ls X hN hT hH hl
  have hx := X.1
  have hb := X.2.1
  have hown := X.2.2.2.1
  have hts := X.2.2.2.2.1
  have hl : lv_has ls 4 [(0, .ref o), (1, .int v1)] := hl
  have hB : 0 + C ≤ C ∧ 0 + S ≤ S := ⟨by omega, by omega⟩
  unfold fc_J2_grow_2 at hF
  refine lv_aload_n hx hb dJ2_grow_2_0 rfl (lv_at hl 0 rfl) ?_
  obtain ⟨hc, hF⟩ := hF
  refine zc_getf X hH hc 1 301 ("java/util/ArrayList", "elementData", "[Ljava/lang/Object;", false) (by decide +kernel) (v := va_rf (zr h 301 o)) rfl q171 (Or.inl rfl) dJ2_grow_2_1 ?_
  obtain ⟨b1, eb1, hF⟩ := hF
  refine zq_st (st2 := [.ref b1]) (by rw [eb1]; first | done | rfl) ?_
  obtain ⟨hc, hF⟩ := hF
  refine zc_alen X hH hc dJ2_grow_2_4 ?_
  refine lv_topi (fun x2 ex2 => ?_)
  have hF := hF x2 ex2
  refine lv_istore_n (lv' := [(2, .int x2), (0, .ref o), (1, .int v1)]) hx hb dJ2_grow_2_5 rfl hl (by decide) rfl (fun ls hl => ?_)
  refine lv_iload_n hx hb dJ2_grow_2_6 rfl (lv_at hl 0 rfl) ?_
  refine lv_if_gt (tgt := 20) hx hb dJ2_grow_2_7 (by decide) (fun cd => ?_) (fun cd => ?_)
  · have hF := hF.1 cd
    exact wc_J2_grow_2_20 X hN hT h C S v1 x2 hF _ _ _ _ _ hB (lv_sub hl [1, 2, 0] rfl) hH
  · have hF := hF.2 cd
    refine lv_aload_n hx hb dJ2_grow_2_10 rfl (lv_at hl 1 rfl) ?_
    obtain ⟨hc, hF⟩ := hF
    refine zc_getf X hH hc 1 301 ("java/util/ArrayList", "elementData", "[Ljava/lang/Object;", false) (by decide +kernel) (v := va_rf (zr h 301 o)) rfl q171 (Or.inl rfl) dJ2_grow_2_11 ?_
    refine zc_gets X hH rfl false q186 dJ2_grow_2_14 ?_
    refine lv_acmp_eq (rx := (zr h 301 o)) (ry := (some G.2.1)) (tgt := 45) hx hb dJ2_grow_2_17 (by decide) (fun cd => ?_) (fun cd => ?_)
    · have hF := hF.1 cd
      refine lv_aload_n hx hb dJ2_grow_2_45 rfl (lv_at hl 1 rfl) ?_
      refine lv_bipush (v := 10) hx hb dJ2_grow_2_46 (by decide) ?_
      refine lv_iload_n hx hb dJ2_grow_2_48 rfl (lv_at hl 2 rfl) ?_
      refine zc_call (c1 := 0) (s1 := 0) (rest := [.ref o]) hH hB (Nat.zero_le _) (Nat.zero_le _) (fun hf => zc_rS X hH (As := [.int 10, .int v1]) (wc_J6_max X.2.2.2.2.2.2.2.1 hF) (lw_S q440 q396 q101 q397) ⟨by decide, by decide, rfl⟩ ⟨Nat.le_of_ble_eq_true rfl, Nat.le_of_ble_eq_true rfl, Nat.le_of_ble_eq_true rfl⟩ rfl hl.1 (st0 := [.int v1, .int 10, .ref o]) rfl (Nat.le_of_ble_eq_true rfl) dJ2_grow_2_49 hf) (fun E9 ce9 q9 h9 H locs hx9 => False.elim hx9) (fun v9 h9 H locs hv9 hH hB => ?_)
      obtain ⟨z3, rfl, hF, rfl⟩ := hv9
      obtain ⟨hI, hF⟩ := hF
      obtain ⟨hJ, hF⟩ := hF
      obtain ⟨hc1, hF⟩ := hF
      obtain ⟨hs1, hF⟩ := hF
      refine zc_newq X hH hB 2 "java/lang/Object" ⟨by decide, by decide, rfl⟩ (by simp) q167 hI hJ hc1 hs1 dJ2_grow_2_52 (fun a4 h5 H hza4 eh5 hH hB => ?_)
      have hF := hF a4 h5 hza4 eh5
      refine lv_dup_x1 hx hb dJ2_grow_2_55 rfl rfl ?_
      obtain ⟨hc, hF⟩ := hF
      refine zc_putr X hH hc 1 301 ("java/util/ArrayList", "elementData", "[Ljava/lang/Object;", false) (by decide +kernel) rfl q171 (Or.inl rfl) (x := (some a4)) rfl (ty := (.array (.object "java/lang/Object"))) (by decide +kernel) rfl (Or.inl rfl) dJ2_grow_2_56 (fun h6 H locs eh6 hH => ?_)
      have hF := hF h6 eh6
      exact zc_aret X hH hB rfl (by first | exact Or.inl ⟨_, rfl⟩ | exact Or.inr ⟨_, rfl⟩) (r := (some a4)) rfl ⟨_, rfl, hF⟩ dJ2_grow_2_59
    · have hF := hF.2 cd
      exact wc_J2_grow_2_20 X hN hT h C S v1 x2 hF _ _ _ _ _ hB (lv_sub hl [1, 2, 0] rfl) hH
set_option maxHeartbeats 4000000 in
set_option maxRecDepth 100000 in
theorem wc_J2_grow {l : Launch} {D : va_G} {cA : Nat → ClassId} {P : Nat → Prop} {G : Nat × Nat × Nat} {o : Nat} {Q : Option Nat → ZH → Prop} {h : ZH} {C S : Nat} (hl9 : l.stackTraces = false) (hF : fc_J2_grow G o Q h C S) :
    zc_M l yJ2_grow (ws_ yJ2_grow cJ2_grow 1 (some (.array (.object "java/lang/Object")))) 5 D cA P G [.ref o] h C S (fun v h' => ∃ z : Option Nat, v = some (va_rf z) ∧ Q z h') zc_no := by
  refine zc_ofF hl9 rfl (by decide +kernel) (Nat.le_of_ble_eq_true rfl) ?_
  intro p e s m args below meth c H locs ls X hN hT hH hl
  have hx := X.1
  have hb := X.2.1
  have hown := X.2.2.2.1
  have hts := X.2.2.2.2.1
  have hl : lv_has ls 1 [(0, .ref o)] := hl
  have hB : 0 + C ≤ C ∧ 0 + S ≤ S := ⟨by omega, by omega⟩
  unfold fc_J2_grow at hF
  refine lv_aload_n hx hb dJ2_grow_0 rfl (lv_at hl 0 rfl) ?_
  refine lv_aload_n hx hb dJ2_grow_1 rfl (lv_at hl 0 rfl) ?_
  obtain ⟨hc, hF⟩ := hF
  refine zc_getf X hH hc 2 302 ("java/util/ArrayList", "size", "I", false) (by decide +kernel) (v := .int (zi h 302 o)) rfl q172 (Or.inl rfl) dJ2_grow_2 ?_
  refine lv_iconst (v := 1) hx hb dJ2_grow_5 (by decide) ?_
  refine lv_iadd hx hb dJ2_grow_6 ?_
  obtain ⟨hc, hF⟩ := hF
  obtain ⟨c1, s2, hc1, hs1, hF⟩ := hF
  refine zc_call (c1 := c1) (s1 := s2) (rest := []) hH hB hc1 hs1 (fun hf => zc_rV X hH hc (by decide) rfl (As := [.int ((zi h 302 o) + 1)]) (wc_J2_grow_2 X.2.2.2.2.2.2.2.1 hF) (lw_V q388 q390 qs5 q94 q391) ⟨rfl, by decide, by decide, rfl⟩ ⟨Nat.le_of_ble_eq_true rfl, Nat.le_of_ble_eq_true rfl, Nat.le_of_ble_eq_true rfl⟩ rfl hl.1 (st0 := [.int ((zi h 302 o) + 1), .ref o]) rfl (Nat.le_of_ble_eq_true rfl) dJ2_grow_7 hf) (fun E9 ce9 q9 h9 H locs hx9 => False.elim hx9) (fun v9 h4 H locs hv9 hH hB => ?_)
  obtain ⟨r3, rfl, hF⟩ := hv9
  exact zc_aret X hH hB rfl (by first | exact Or.inl ⟨_, rfl⟩ | exact Or.inr ⟨_, rfl⟩) (r := r3) rfl ⟨_, rfl, hF⟩ dJ2_grow_10
set_option maxHeartbeats 4000000 in
set_option maxRecDepth 100000 in
theorem wc_J2_add_2_11 {p : Program} {l : Launch} {e : Env} {s : State} {m : MethodId} {args : Array Value} {below : List Frame} {meth : Method} {c : Code} {D : va_G} {cA : Nat → ClassId} {P : Nat → Prop} {G : Nat × Nat × Nat} {C S : Nat} {o : Nat} {Q : ZH → Prop} (X : zc_Cx p l s m args meth c cJ2_add_2 4 none "java/util/ArrayList" D cA P G) (hN : meth.name = "add") (hT : c.exceptionTable.toList = tableOf []) :
    ∀ (h : ZH) (bc bs : Nat) (q1 : Option Nat) (q2 : Option Nat) (v3 : Int32), fc_J2_add_2_11 G o Q h bc bs q1 q2 v3 → ∀ (H : Heap) (locs : List Loc) (ls : Array Slot) (cells slots : Nat), cells + bc ≤ C ∧ slots + bs ≤ S → lv_has ls 4 [(0, .ref o), (1, va_rf q1), (2, va_rf q2), (3, .int v3)] → zc_H D cA P h s H locs → W p l e (zc_Ro 6 C S) s m args below meth c H locs cells slots (vx_MQ below (zc_Q D cA P (fun v h' => v = none ∧ Q h')) (zc_X D cA P zc_no) args s C S P) (F0 m 11 ls []) := by
  have hx := X.1
  have hb := X.2.1
  have hown := X.2.2.2.1
  have hts := X.2.2.2.2.1
  intro h bc bs q1 q2 v3 hF
  intro H locs ls cells slots hB hl hH
  unfold fc_J2_add_2_11 at hF
  refine zq_aload_n hx hb dJ2_add_2_11 rfl (lv_at hl 2 rfl) ?_
  refine lv_iload_n hx hb dJ2_add_2_12 rfl (lv_at hl 3 rfl) ?_
  refine zq_aload_n hx hb dJ2_add_2_13 rfl (lv_at hl 1 rfl) ?_
  obtain ⟨b1, eb1, hF⟩ := hF
  refine zq_st (st2 := [va_rf q1, .int v3, .ref b1]) (by rw [eb1]; first | done | rfl) ?_
  obtain ⟨hc, hF⟩ := hF
  obtain ⟨hI, hF⟩ := hF
  obtain ⟨hR, hF⟩ := hF
  refine zc_aast X hH [22] 2 hc (by decide) (r := q1) rfl hI hR dJ2_add_2_14 (fun h2 H locs eh2 hH => ?_)
  have hF := hF h2 eh2
  refine lv_aload_n hx hb dJ2_add_2_15 rfl (lv_at hl 0 rfl) ?_
  refine lv_iload_n hx hb dJ2_add_2_16 rfl (lv_at hl 3 rfl) ?_
  refine lv_iconst (v := 1) hx hb dJ2_add_2_17 (by decide) ?_
  refine lv_iadd hx hb dJ2_add_2_18 ?_
  obtain ⟨hc, hF⟩ := hF
  refine zc_puti X hH hc 2 302 ("java/util/ArrayList", "size", "I", false) (by decide +kernel) rfl q172 (Or.inl rfl) (ty := .int) (by decide +kernel) rfl rfl (Or.inl rfl) dJ2_add_2_19 (fun h3 H locs eh3 hH => ?_)
  have hF := hF h3 eh3
  exact zc_vret X hH hB rfl ⟨rfl, hF⟩ dJ2_add_2_22
set_option maxHeartbeats 4000000 in
set_option maxRecDepth 100000 in
theorem wc_J2_add_2 {l : Launch} {D : va_G} {cA : Nat → ClassId} {P : Nat → Prop} {G : Nat × Nat × Nat} {o : Nat} {Q : ZH → Prop} {h : ZH} {C S : Nat} {q1 : Option Nat} {q2 : Option Nat} {v3 : Int32} (hl9 : l.stackTraces = false) (hF : fc_J2_add_2 G o Q h C S q1 q2 v3) :
    zc_M l yJ2_add_2 (ws_ yJ2_add_2 cJ2_add_2 4 none) 6 D cA P G [.ref o, va_rf q1, va_rf q2, .int v3] h C S (fun v h' => v = none ∧ Q h') zc_no := by
  refine zc_ofF hl9 rfl (by decide +kernel) (zc_slle (by simp [zc_k1, zc_kI, zc_kR]) (Nat.le_of_ble_eq_true rfl)) ?_
  intro p e s m args below meth c H locs ls X hN hT hH hl
  have hx := X.1
  have hb := X.2.1
  have hown := X.2.2.2.1
  have hts := X.2.2.2.2.1
  have hl : lv_has ls 4 [(0, .ref o), (1, va_rf q1), (2, va_rf q2), (3, .int v3)] := by
    have h9 := hl
    rw [zc_ags _ (by simp [zc_k1, zc_kI, zc_kR]) 0] at h9
    exact h9
  have hB : 0 + C ≤ C ∧ 0 + S ≤ S := ⟨by omega, by omega⟩
  unfold fc_J2_add_2 at hF
  refine lv_iload_n hx hb dJ2_add_2_0 rfl (lv_at hl 3 rfl) ?_
  refine zq_aload_n hx hb dJ2_add_2_1 rfl (lv_at hl 2 rfl) ?_
  obtain ⟨b1, eb1, hF⟩ := hF
  refine zq_st (st2 := [.ref b1, .int v3]) (by rw [eb1]; first | done | rfl) ?_
  obtain ⟨hc, hF⟩ := hF
  refine zc_alen X hH hc dJ2_add_2_2 ?_
  refine lv_icmp_ne (tgt := 11) hx hb dJ2_add_2_3 (by decide) (fun cd => ?_) (fun cd => ?_)
  · have hF := hF.1 cd
    exact wc_J2_add_2_11 X hN hT h C S q1 q2 v3 hF _ _ _ _ _ hB (lv_sub hl [0, 1, 2, 3] rfl) hH
  · have hF := hF.2 cd
    refine lv_aload_n hx hb dJ2_add_2_6 rfl (lv_at hl 0 rfl) ?_
    obtain ⟨hc, hF⟩ := hF
    obtain ⟨c2, s3, hc1, hs1, hF⟩ := hF
    refine zc_call (c1 := c2) (s1 := s3) (rest := []) hH hB hc1 hs1 (fun hf => zc_rV X hH hc (by decide) rfl (As := []) (wc_J2_grow X.2.2.2.2.2.2.2.1 hF) (lw_V q384 q386 qs4 q94 q387) ⟨rfl, by decide, by decide, rfl⟩ ⟨Nat.le_of_ble_eq_true rfl, Nat.le_of_ble_eq_true rfl, Nat.le_of_ble_eq_true rfl⟩ rfl hl.1 (st0 := [.ref o]) rfl (Nat.le_of_ble_eq_true rfl) dJ2_add_2_7 hf) (fun E9 ce9 q9 h9 H locs hx9 => False.elim hx9) (fun v9 h5 H locs hv9 hH hB => ?_)
    obtain ⟨r4, rfl, hF⟩ := hv9
    refine zq_astore_n (r := r4) (lv' := [(2, va_rf r4), (0, .ref o), (1, va_rf q1), (3, .int v3)]) hx hb rfl dJ2_add_2_10 rfl hl (by decide) (by cases q1 <;> rfl) (fun ls hl => ?_)
    exact wc_J2_add_2_11 X hN hT h5 (C - c2) (S - s3) q1 r4 v3 hF _ _ _ _ _ hB (lv_sub hl [1, 2, 0, 3] rfl) hH
set_option maxHeartbeats 4000000 in
set_option maxRecDepth 100000 in
theorem wc_J2_add {l : Launch} {D : va_G} {cA : Nat → ClassId} {P : Nat → Prop} {G : Nat × Nat × Nat} {o : Nat} {Q : Int32 → ZH → Prop} {h : ZH} {C S : Nat} {q1 : Option Nat} (hl9 : l.stackTraces = false) (hF : fc_J2_add G o Q h C S q1) :
    zc_M l yJ2_add (ws_ yJ2_add cJ2_add 2 (some .boolean)) 7 D cA P G [.ref o, va_rf q1] h C S (fun v h' => ∃ z : Int32, v = some (.int z) ∧ Q z h') zc_no := by
  refine zc_ofF hl9 rfl (by decide +kernel) (zc_slle (by simp [zc_k1, zc_kI, zc_kR]) (Nat.le_of_ble_eq_true rfl)) ?_
  intro p e s m args below meth c H locs ls X hN hT hH hl
  have hx := X.1
  have hb := X.2.1
  have hown := X.2.2.2.1
  have hts := X.2.2.2.2.1
  have hl : lv_has ls 2 [(0, .ref o), (1, va_rf q1)] := by
    have h9 := hl
    rw [zc_ags _ (by simp [zc_k1, zc_kI, zc_kR]) 0] at h9
    exact h9
  have hB : 0 + C ≤ C ∧ 0 + S ≤ S := ⟨by omega, by omega⟩
  unfold fc_J2_add at hF
  refine lv_aload_n hx hb dJ2_add_0 rfl (lv_at hl 0 rfl) ?_
  refine lv_dup hx hb dJ2_add_1 rfl ?_
  obtain ⟨hc, hF⟩ := hF
  refine zc_getf X hH hc 0 300 ("java/util/AbstractList", "modCount", "I", false) (by decide +kernel) (v := .int (zi h 300 o)) rfl q174 (Or.inr q175) dJ2_add_2 ?_
  refine lv_iconst (v := 1) hx hb dJ2_add_5 (by decide) ?_
  refine lv_iadd hx hb dJ2_add_6 ?_
  obtain ⟨hc, hF⟩ := hF
  refine zc_puti X hH hc 0 300 ("java/util/AbstractList", "modCount", "I", false) (by decide +kernel) rfl q174 (Or.inr q175) (ty := .int) (by decide +kernel) rfl rfl (Or.inl rfl) dJ2_add_7 (fun h1 H locs eh1 hH => ?_)
  have hF := hF h1 eh1
  refine lv_aload_n hx hb dJ2_add_10 rfl (lv_at hl 0 rfl) ?_
  refine zq_aload_n hx hb dJ2_add_11 rfl (lv_at hl 1 rfl) ?_
  refine lv_aload_n hx hb dJ2_add_12 rfl (lv_at hl 0 rfl) ?_
  obtain ⟨hc, hF⟩ := hF
  refine zc_getf X hH hc 1 301 ("java/util/ArrayList", "elementData", "[Ljava/lang/Object;", false) (by decide +kernel) (v := va_rf (zr h1 301 o)) rfl q171 (Or.inl rfl) dJ2_add_13 ?_
  refine lv_aload_n hx hb dJ2_add_16 rfl (lv_at hl 0 rfl) ?_
  obtain ⟨hc, hF⟩ := hF
  refine zc_getf X hH hc 2 302 ("java/util/ArrayList", "size", "I", false) (by decide +kernel) (v := .int (zi h1 302 o)) rfl q172 (Or.inl rfl) dJ2_add_17 ?_
  obtain ⟨hc, hF⟩ := hF
  obtain ⟨c2, s3, hc1, hs1, hF⟩ := hF
  refine zc_call (c1 := c2) (s1 := s3) (rest := []) hH hB hc1 hs1 (fun hf => zc_rV X hH hc (by decide) rfl (As := [va_rf q1, va_rf (zr h1 301 o), .int (zi h1 302 o)]) (wc_J2_add_2 X.2.2.2.2.2.2.2.1 hF) (lw_V q380 q382 qs3 q94 q383) ⟨rfl, by decide, by decide, rfl⟩ ⟨Nat.le_of_ble_eq_true rfl, Nat.le_of_ble_eq_true rfl, Nat.le_of_ble_eq_true rfl⟩ rfl hl.1 (st0 := [.int (zi h1 302 o), va_rf (zr h1 301 o), va_rf q1, .ref o]) rfl (Nat.le_of_ble_eq_true rfl) dJ2_add_20 hf) (fun E9 ce9 q9 h9 H locs hx9 => False.elim hx9) (fun v9 h4 H locs hv9 hH hB => ?_)
  obtain ⟨rfl, hF⟩ := hv9
  refine lv_iconst (v := 1) hx hb dJ2_add_23 (by decide) ?_
  exact zc_iret X hH hB rfl rfl ⟨_, rfl, hF⟩ dJ2_add_24
set_option maxHeartbeats 4000000 in
set_option maxRecDepth 100000 in
theorem wc_X5_field_26 {p : Program} {l : Launch} {e : Env} {s : State} {m : MethodId} {args : Array Value} {below : List Frame} {meth : Method} {c : Code} {D : va_G} {cA : Nat → ClassId} {P : Nat → Prop} {G : Nat × Nat × Nat} {C S : Nat} {o : Nat} {Q : Int32 → ZH → Prop} {XE : String → Nat → ZH → Prop} (X : zc_Cx p l s m args meth c cX5_field 2 (some .int) "ChurchyardBook$Book" D cA P G) (hN : meth.name = "field") (hT : c.exceptionTable.toList = tableOf []) :
    ∀ (h : ZH) (bc bs : Nat) (v1 : Int32) (t0 : Int32), fc_X5_field_26 G o Q XE h bc bs v1 t0 → ∀ (H : Heap) (locs : List Loc) (ls : Array Slot) (cells slots : Nat), cells + bc ≤ C ∧ slots + bs ≤ S → lv_has ls 2 [(0, .ref o), (1, .int v1)] → zc_H D cA P h s H locs → W p l e (zc_Ro 8 C S) s m args below meth c H locs cells slots (vx_MQ below (zc_Q D cA P (fun v h' => ∃ z : Int32, v = some (.int z) ∧ Q z h')) (zc_X D cA P XE) args s C S P) (F0 m 26 ls [.int t0]) := by
  have hx := X.1
  have hb := X.2.1
  have hown := X.2.2.2.1
  have hts := X.2.2.2.2.1
  intro h bc bs v1 t0 hF
  intro H locs ls cells slots hB hl hH
  unfold fc_X5_field_26 at hF
  refine lv_iconst (v := (-1)) hx hb dX5_field_26 (by decide) ?_
  obtain ⟨c1, s2, hc1, hs1, hF⟩ := hF
  refine zc_call (c1 := c1) (s1 := s2) (rest := []) hH hB hc1 hs1 (fun hf => zc_rSN X hH (As := [.int t0, .int (-1)]) (host := "ChurchyardBook") (wc_X1_need X.2.2.2.2.2.2.2.1 hF) (lw_meth q265) (by decide +kernel) q87 q264 ⟨by decide, by decide, rfl⟩ ⟨Nat.le_of_ble_eq_true rfl, Nat.le_of_ble_eq_true rfl, Nat.le_of_ble_eq_true rfl⟩ rfl hl.1 (st0 := [.int (-1), .int t0]) rfl (Nat.le_of_ble_eq_true rfl) dX5_field_27 hf) (fun E9 ce9 q3 h4 H locs hx9 hH hB hce hcv hcl => ?_) (fun v9 h9 H locs hv9 hH hB => ?_)
  · exact zc_out X hH hB (by rw [hT]; intro x hx9; cases hx9) hce hcv hcl hx9
  obtain ⟨rfl, hF, rfl⟩ := hv9
  refine lv_aload_n hx hb dX5_field_30 rfl (lv_at hl 0 rfl) ?_
  obtain ⟨hc, hF⟩ := hF
  refine zc_getf X hH hc 0 200 ("ChurchyardBook$Book", "fields", "Ljava/util/ArrayList;", true) (by decide +kernel) (v := va_rf (zr h 200 o)) rfl q188 (Or.inl rfl) dX5_field_31 ?_
  obtain ⟨hc1, hF⟩ := hF
  obtain ⟨hs1, hF⟩ := hF
  refine zc_new X hH hB (ci := 6) rfl (n := 3) q353 q354 q99 (by decide) hc1 hs1 dX5_field_34 (fun a5 h6 H hza5 eh6 hH hB => ?_)
  have hF := hF a5 h6 hza5 eh6
  refine lv_dup hx hb dX5_field_37 rfl ?_
  refine lv_iload_n hx hb dX5_field_38 rfl (lv_at hl 1 rfl) ?_
  obtain ⟨c7, s8, hc1, hs1, hF⟩ := hF
  refine zc_call (c1 := c7) (s1 := s8) (rest := [.ref a5, va_rf (zr h 200 o)]) hH hB hc1 hs1 (fun hf => zc_rI X hH (As := [.int v1]) (wc_X8_init X.2.2.2.2.2.2.2.1 hF) (lw_meth q357) q355 q99 q356 rfl ⟨by decide, by decide, rfl⟩ ⟨Nat.le_of_ble_eq_true rfl, Nat.le_of_ble_eq_true rfl, Nat.le_of_ble_eq_true rfl⟩ rfl hl.1 (st0 := [.int v1, .ref a5, .ref a5, va_rf (zr h 200 o)]) rfl (by simp only [List.map_cons, List.map_nil, List.sum_cons, List.sum_nil, zc_k1]; exact Nat.le_of_ble_eq_true rfl) dX5_field_39 hf) (fun E9 ce9 q9 h9 H locs hx9 => False.elim hx9) (fun v9 h9 H locs hv9 hH hB => ?_)
  obtain ⟨rfl, hF⟩ := hv9
  obtain ⟨b10, eb10, hF⟩ := hF
  refine zq_st (st2 := [.ref a5, .ref b10]) (by rw [eb10]; first | done | rfl) ?_
  obtain ⟨hc, hF⟩ := hF
  obtain ⟨c11, s12, hc1, hs1, hF⟩ := hF
  refine zc_call (c1 := c11) (s1 := s12) (rest := []) hH hB hc1 hs1 (fun hf => zc_rV X hH hc (by decide) rfl (As := [.ref a5]) (wc_J2_add X.2.2.2.2.2.2.2.1 hF) (lw_V q376 q377 q378 q94 q379) ⟨rfl, by decide, by decide, rfl⟩ ⟨Nat.le_of_ble_eq_true rfl, Nat.le_of_ble_eq_true rfl, Nat.le_of_ble_eq_true rfl⟩ rfl hl.1 (st0 := [.ref a5, .ref b10]) rfl (Nat.le_of_ble_eq_true rfl) dX5_field_42 hf) (fun E9 ce9 q9 h9 H locs hx9 => False.elim hx9) (fun v9 h14 H locs hv9 hH hB => ?_)
  obtain ⟨z13, rfl, hF⟩ := hv9
  refine lv_pop hx hb dX5_field_45 rfl ?_
  refine lv_aload_n hx hb dX5_field_46 rfl (lv_at hl 0 rfl) ?_
  obtain ⟨hc, hF⟩ := hF
  refine zc_getf X hH hc 0 200 ("ChurchyardBook$Book", "fields", "Ljava/util/ArrayList;", true) (by decide +kernel) (v := va_rf (zr h14 200 o)) rfl q188 (Or.inl rfl) dX5_field_47 ?_
  obtain ⟨b15, eb15, hF⟩ := hF
  refine zq_st (st2 := [.ref b15]) (by rw [eb15]; first | done | rfl) ?_
  obtain ⟨hc, hF⟩ := hF
  refine zc_call (c1 := 0) (s1 := 0) (rest := []) hH hB (Nat.zero_le _) (Nat.zero_le _) (fun hf => zc_rV X hH hc (by decide) rfl (As := []) (wc_J2_size X.2.2.2.2.2.2.2.1 hF) (lw_V q349 q350 q351 q94 q352) ⟨rfl, by decide, by decide, rfl⟩ ⟨Nat.le_of_ble_eq_true rfl, Nat.le_of_ble_eq_true rfl, Nat.le_of_ble_eq_true rfl⟩ rfl hl.1 (st0 := [.ref b15]) rfl (Nat.le_of_ble_eq_true rfl) dX5_field_50 hf) (fun E9 ce9 q9 h9 H locs hx9 => False.elim hx9) (fun v9 h9 H locs hv9 hH hB => ?_)
  obtain ⟨z16, rfl, hF, rfl⟩ := hv9
  refine lv_iconst (v := 1) hx hb dX5_field_53 (by decide) ?_
  refine lv_isub hx hb dX5_field_54 ?_
  exact zc_iret X hH hB rfl rfl ⟨_, rfl, hF⟩ dX5_field_55
set_option maxHeartbeats 4000000 in
set_option maxRecDepth 100000 in
theorem wc_X5_field_25 {p : Program} {l : Launch} {e : Env} {s : State} {m : MethodId} {args : Array Value} {below : List Frame} {meth : Method} {c : Code} {D : va_G} {cA : Nat → ClassId} {P : Nat → Prop} {G : Nat × Nat × Nat} {C S : Nat} {o : Nat} {Q : Int32 → ZH → Prop} {XE : String → Nat → ZH → Prop} (X : zc_Cx p l s m args meth c cX5_field 2 (some .int) "ChurchyardBook$Book" D cA P G) (hN : meth.name = "field") (hT : c.exceptionTable.toList = tableOf []) :
    ∀ (h : ZH) (bc bs : Nat) (v1 : Int32), fc_X5_field_25 G o Q XE h bc bs v1 → ∀ (H : Heap) (locs : List Loc) (ls : Array Slot) (cells slots : Nat), cells + bc ≤ C ∧ slots + bs ≤ S → lv_has ls 2 [(0, .ref o), (1, .int v1)] → zc_H D cA P h s H locs → W p l e (zc_Ro 8 C S) s m args below meth c H locs cells slots (vx_MQ below (zc_Q D cA P (fun v h' => ∃ z : Int32, v = some (.int z) ∧ Q z h')) (zc_X D cA P XE) args s C S P) (F0 m 25 ls []) := by
  have hx := X.1
  have hb := X.2.1
  have hown := X.2.2.2.1
  have hts := X.2.2.2.2.1
  intro h bc bs v1 hF
  intro H locs ls cells slots hB hl hH
  unfold fc_X5_field_25 at hF
  refine lv_iconst (v := 0) hx hb dX5_field_25 (by decide) ?_
  exact wc_X5_field_26 X hN hT h bc bs v1 0 hF _ _ _ _ _ hB (lv_sub hl [0, 1] rfl) hH
set_option maxHeartbeats 4000000 in
set_option maxRecDepth 100000 in
theorem wc_X5_field {l : Launch} {D : va_G} {cA : Nat → ClassId} {P : Nat → Prop} {G : Nat × Nat × Nat} {o : Nat} {Q : Int32 → ZH → Prop} {XE : String → Nat → ZH → Prop} {h : ZH} {C S : Nat} {v1 : Int32} (hl9 : l.stackTraces = false) (hF : fc_X5_field G o Q XE h C S v1) :
    zc_M l yX5_field (ws_ yX5_field cX5_field 2 (some .int)) 8 D cA P G [.ref o, .int v1] h C S (fun v h' => ∃ z : Int32, v = some (.int z) ∧ Q z h') XE := by
  refine zc_ofF hl9 rfl (by decide +kernel) (Nat.le_of_ble_eq_true rfl) ?_
  intro p e s m args below meth c H locs ls X hN hT hH hl
  have hx := X.1
  have hb := X.2.1
  have hown := X.2.2.2.1
  have hts := X.2.2.2.2.1
  have hl : lv_has ls 2 [(0, .ref o), (1, .int v1)] := hl
  have hB : 0 + C ≤ C ∧ 0 + S ≤ S := ⟨by omega, by omega⟩
  unfold fc_X5_field at hF
  refine lv_iload_n hx hb dX5_field_0 rfl (lv_at hl 1 rfl) ?_
  refine lv_if_lt (tgt := 25) hx hb dX5_field_1 (by decide) (fun cd => ?_) (fun cd => ?_)
  · have hF := hF.1 cd
    exact wc_X5_field_25 X hN hT h C S v1 hF _ _ _ _ _ hB (lv_sub hl [0, 1] rfl) hH
  · have hF := hF.2 cd
    refine lv_iload_n hx hb dX5_field_4 rfl (lv_at hl 1 rfl) ?_
    refine lv_iconst (v := 2) hx hb dX5_field_5 (by decide) ?_
    refine lv_icmp_gt (tgt := 25) hx hb dX5_field_6 (by decide) (fun cd => ?_) (fun cd => ?_)
    · have hF := hF.1 cd
      exact wc_X5_field_25 X hN hT h C S v1 hF _ _ _ _ _ hB (lv_sub hl [0, 1] rfl) hH
    · have hF := hF.2 cd
      refine lv_aload_n hx hb dX5_field_9 rfl (lv_at hl 0 rfl) ?_
      obtain ⟨hc, hF⟩ := hF
      refine zc_getf X hH hc 0 200 ("ChurchyardBook$Book", "fields", "Ljava/util/ArrayList;", true) (by decide +kernel) (v := va_rf (zr h 200 o)) rfl q188 (Or.inl rfl) dX5_field_10 ?_
      obtain ⟨b1, eb1, hF⟩ := hF
      refine zq_st (st2 := [.ref b1]) (by rw [eb1]; first | done | rfl) ?_
      obtain ⟨hc, hF⟩ := hF
      refine zc_call (c1 := 0) (s1 := 0) (rest := []) hH hB (Nat.zero_le _) (Nat.zero_le _) (fun hf => zc_rV X hH hc (by decide) rfl (As := []) (wc_J2_size X.2.2.2.2.2.2.2.1 hF) (lw_V q349 q350 q351 q94 q352) ⟨rfl, by decide, by decide, rfl⟩ ⟨Nat.le_of_ble_eq_true rfl, Nat.le_of_ble_eq_true rfl, Nat.le_of_ble_eq_true rfl⟩ rfl hl.1 (st0 := [.ref b1]) rfl (Nat.le_of_ble_eq_true rfl) dX5_field_13 hf) (fun E9 ce9 q9 h9 H locs hx9 => False.elim hx9) (fun v9 h9 H locs hv9 hH hB => ?_)
      obtain ⟨z2, rfl, hF, rfl⟩ := hv9
      refine lv_bipush (v := 8) hx hb dX5_field_16 (by decide) ?_
      refine lv_icmp_ge (tgt := 25) hx hb dX5_field_18 (by decide) (fun cd => ?_) (fun cd => ?_)
      · have hF := hF.1 cd
        exact wc_X5_field_25 X hN hT h C S v1 hF _ _ _ _ _ hB (lv_sub hl [0, 1] rfl) hH
      · have hF := hF.2 cd
        refine lv_iconst (v := 1) hx hb dX5_field_21 (by decide) ?_
        refine lv_goto (tgt := 26) hx hb dX5_field_22 (by decide) ?_
        exact wc_X5_field_26 X hN hT h C S v1 1 hF _ _ _ _ _ hB (lv_sub hl [0, 1] rfl) hH
set_option maxHeartbeats 4000000 in
set_option maxRecDepth 100000 in
theorem wc_J12_checkIndex {l : Launch} {D : va_G} {cA : Nat → ClassId} {P : Nat → Prop} {G : Nat × Nat × Nat} {Q : Int32 → Prop} {h : ZH} {C S : Nat} {v0 : Int32} {v1 : Int32} {q2 : Option Nat} (hl9 : l.stackTraces = false) (hF : fc_J12_checkIndex G Q h v0 v1 q2) :
    zc_M l yJ12_checkIndex (ws_ yJ12_checkIndex cJ12_checkIndex 3 (some .int)) 1 D cA P G [.int v0, .int v1, va_rf q2] h C S (fun v h' => ∃ z : Int32, v = some (.int z) ∧ Q z ∧ h = h') zc_no := by
  refine zc_ofF hl9 rfl (by decide +kernel) (zc_slle (by simp [zc_k1, zc_kI, zc_kR]) (Nat.le_of_ble_eq_true rfl)) ?_
  intro p e s m args below meth c H locs ls X hN hT hH hl
  have hx := X.1
  have hb := X.2.1
  have hown := X.2.2.2.1
  have hts := X.2.2.2.2.1
  have hl : lv_has ls 3 [(0, .int v0), (1, .int v1), (2, va_rf q2)] := by
    have h9 := hl
    rw [zc_ags _ (by simp [zc_k1, zc_kI, zc_kR]) 0] at h9
    exact h9
  have hB : 0 + 0 ≤ C ∧ 0 + 0 ≤ S := ⟨by omega, by omega⟩
  have eh : h = h := rfl
  unfold fc_J12_checkIndex at hF
  refine lv_iload_n hx hb dJ12_checkIndex_0 rfl (lv_at hl 0 rfl) ?_
  refine lv_if_lt (tgt := 9) hx hb dJ12_checkIndex_1 (by decide) (fun cd => ?_) (fun cd => ?_)
  · have hF := hF.1 cd
    exact False.elim hF
  · have hF := hF.2 cd
    refine lv_iload_n hx hb dJ12_checkIndex_4 rfl (lv_at hl 0 rfl) ?_
    refine lv_iload_n hx hb dJ12_checkIndex_5 rfl (lv_at hl 1 rfl) ?_
    refine lv_icmp_lt (tgt := 16) hx hb dJ12_checkIndex_6 (by decide) (fun cd => ?_) (fun cd => ?_)
    · have hF := hF.1 cd
      refine lv_iload_n hx hb dJ12_checkIndex_16 rfl (lv_at hl 0 rfl) ?_
      exact zc_iret X hH hB rfl rfl ⟨_, rfl, hF, eh⟩ dJ12_checkIndex_17
    · have hF := hF.2 cd
      exact False.elim hF
