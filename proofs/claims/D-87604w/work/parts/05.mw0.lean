/-! THE MODEL SIDE: the walks, printed by gen_model.py -/
set_option maxRecDepth 100000
set_option maxHeartbeats 4000000 in
set_option maxRecDepth 100000 in
/-- thrown: what the bytecode asks is what its run needs -/
theorem wm_thrown (l : Launch) (D : va_G) (cI cZ : ClassId) (ad : Nat → Nat) (o : Nat) (hAd : zm_Ad ad o) (S : Nat → Int32) (M : Nat → Nat → Int32) (Q : Int32 → Prop) (hF : fm_thrown S M Q) :
    zm_Mi l yX6_thrown (ws_ yX6_thrown cX6_thrown 1 (some .int)) 0 D cI cZ ad o [] S M (fun r S1 M1 => Q r ∧ S = S1 ∧ M = M1) := by
  refine zm_ofi rfl hAd (Nat.le_of_ble_eq_true rfl) ?_
  intro p e s m args below meth c H locs ls X hH hl
  have hx := X.1
  have hb := X.2.1
  have hl : lv_has ls 1 [(0, .ref o)] := hl
  unfold fm_thrown at hF
  refine lv_aload_n hx hb dX6_thrown_0 rfl (lv_at hl 0 rfl) ?_
  refine zm_getf X hH 0 (by decide) rfl q1713 dX6_thrown_1 ?_
  exact zm_iret X hH rfl rfl ⟨hF, rfl, rfl⟩ dX6_thrown_4
set_option maxHeartbeats 4000000 in
set_option maxRecDepth 100000 in
theorem wm_empty_32 {p : Program} {l : Launch} {e : Env} {s : State} {m : MethodId} {args : Array Value} {below : List Frame} {meth : Method} {c : Code} {D : va_G} {cI cZ : ClassId} {ad : Nat → Nat} {o : Nat} {Q : (Nat → Int32) → (Nat → Nat → Int32) → Prop} (X : zm_Cx p s m args meth c cX6_empty 2 none D cI cZ ad o) :
    ∀ (n : Nat) (S : Nat → Int32) (M : Nat → Nat → Int32) (v1 : Int32), fm_empty_32 Q n S M v1 → ∀ (H : Heap) (locs : List Loc) (ls : Array Slot), lv_has ls 2 [(0, .ref o), (1, .int v1)] → zm_H D cI cZ ad o S M s H locs → W p l e (zm_R 0) s m args below meth c H locs 0 0 (MQ below (zm_QV Q D cI cZ ad o) args s 0 0 (zm_A ad o)) (F0 m 32 ls []) := by
  have hx := X.1
  have hb := X.2.1
  intro n
  induction n with
  | zero =>
    intro S M v1 hF
    exact False.elim hF
  | succ n ih =>
    intro S M v1 hF
    intro H locs ls hl hH
    unfold fm_empty_32 at hF
    refine lv_iload_n hx hb dX6_empty_32 rfl (lv_at hl 1 rfl) ?_
    refine lv_bipush (v := 96) hx hb dX6_empty_33 (by decide) ?_
    refine lv_icmp_ge (tgt := 51) hx hb dX6_empty_35 (by decide) (fun cd => ?_) (fun cd => ?_)
    · have hF := hF.1 cd
      exact zm_vret X hH hF dX6_empty_51
    · have hF := hF.2 cd
      refine lv_aload_n hx hb dX6_empty_38 rfl (lv_at hl 0 rfl) ?_
      refine zm_getf X hH 7 (by decide) rfl q1720 dX6_empty_39 ?_
      refine lv_iload_n hx hb dX6_empty_42 rfl (lv_at hl 1 rfl) ?_
      refine lv_iconst (v := 0) hx hb dX6_empty_43 (by decide) ?_
      obtain ⟨hI, hF⟩ := hF
      refine zm_zast X hH 7 (by decide) rfl (n := 96) rfl hI dX6_empty_44 (fun M1 H locs eM1 hH => ?_)
      have hF := hF M1 eM1
      obtain ⟨x2, ex2⟩ : ∃ z : Int32, z = v1 + 1 := ⟨_, rfl⟩
      have hF := hF x2 ex2
      refine lv_iinc (v := x2) (lv' := [(1, .int x2), (0, .ref o)]) hx hb dX6_empty_45 hl (k := 1) rfl (by rw [ex2]; rfl) (by decide) rfl (fun ls hl => ?_)
      refine lv_goto (tgt := 32) hx hb dX6_empty_48 (by decide) ?_
      exact ih S M1 x2 hF _ _ _ (lv_sub hl [1, 0] rfl) hH
set_option maxHeartbeats 4000000 in
set_option maxRecDepth 100000 in
/-- empty: what the bytecode asks is what its run needs -/
theorem wm_empty (l : Launch) (D : va_G) (cI cZ : ClassId) (ad : Nat → Nat) (o : Nat) (hAd : zm_Ad ad o) (S : Nat → Int32) (M : Nat → Nat → Int32) (Q : (Nat → Int32) → (Nat → Nat → Int32) → Prop) (hF : fm_empty S M Q) :
    zm_Mv l yX6_empty (ws_ yX6_empty cX6_empty 2 none) 0 D cI cZ ad o [] S M Q := by
  refine zm_ofv rfl hAd (Nat.le_of_ble_eq_true rfl) ?_
  intro p e s m args below meth c H locs ls X hH hl
  have hx := X.1
  have hb := X.2.1
  have hl : lv_has ls 2 [(0, .ref o)] := hl
  unfold fm_empty at hF
  refine lv_aload_n hx hb dX6_empty_0 rfl (lv_at hl 0 rfl) ?_
  refine lv_iconst (v := 0) hx hb dX6_empty_1 (by decide) ?_
  refine zm_puti X hH 1 (by decide) rfl rfl (by decide +kernel) q1714 dX6_empty_2 (fun S1 H locs eS1 hH => ?_)
  have hF := hF S1 eS1
  refine lv_aload_n hx hb dX6_empty_5 rfl (lv_at hl 0 rfl) ?_
  refine lv_iconst (v := 0) hx hb dX6_empty_6 (by decide) ?_
  refine zm_puti X hH 2 (by decide) rfl rfl (by decide +kernel) q1715 dX6_empty_7 (fun S2 H locs eS2 hH => ?_)
  have hF := hF S2 eS2
  refine lv_aload_n hx hb dX6_empty_10 rfl (lv_at hl 0 rfl) ?_
  refine lv_iconst (v := 0) hx hb dX6_empty_11 (by decide) ?_
  refine zm_puti X hH 9 (by decide) rfl rfl (by decide +kernel) q1722 dX6_empty_12 (fun S3 H locs eS3 hH => ?_)
  have hF := hF S3 eS3
  refine lv_aload_n hx hb dX6_empty_15 rfl (lv_at hl 0 rfl) ?_
  refine lv_iconst (v := 0) hx hb dX6_empty_16 (by decide) ?_
  refine zm_puti X hH 27 (by decide) rfl rfl (by decide +kernel) q1740 dX6_empty_17 (fun S4 H locs eS4 hH => ?_)
  have hF := hF S4 eS4
  refine lv_aload_n hx hb dX6_empty_20 rfl (lv_at hl 0 rfl) ?_
  refine lv_iconst (v := 0) hx hb dX6_empty_21 (by decide) ?_
  refine zm_puti X hH 40 (by decide) rfl rfl (by decide +kernel) q1753 dX6_empty_22 (fun S5 H locs eS5 hH => ?_)
  have hF := hF S5 eS5
  refine lv_aload_n hx hb dX6_empty_25 rfl (lv_at hl 0 rfl) ?_
  refine lv_iconst (v := 0) hx hb dX6_empty_26 (by decide) ?_
  refine zm_puti X hH 44 (by decide) rfl rfl (by decide +kernel) q1757 dX6_empty_27 (fun S6 H locs eS6 hH => ?_)
  have hF := hF S6 eS6
  refine lv_iconst (v := 0) hx hb dX6_empty_30 (by decide) ?_
  refine lv_istore_n (lv' := [(1, .int 0), (0, .ref o)]) hx hb dX6_empty_31 rfl hl (by decide) rfl (fun ls hl => ?_)
  obtain ⟨n9, hF⟩ := hF
  exact wm_empty_32 X n9 S6 M 0 hF _ _ _ (lv_sub hl [1, 0] rfl) hH
set_option maxHeartbeats 4000000 in
set_option maxRecDepth 100000 in
/-- rowFault: what the bytecode asks is what its run needs -/
theorem wm_rowFault (l : Launch) (D : va_G) (cI cZ : ClassId) (ad : Nat → Nat) (o : Nat) (hAd : zm_Ad ad o) (S : Nat → Int32) (M : Nat → Nat → Int32) (v1 : Int32) (v2 : Int32) (Q : Int32 → Prop) (hF : fm_rowFault S M v1 v2 Q) :
    zm_Mi l yX6_rowFault (ws_ yX6_rowFault cX6_rowFault 3 (some .int)) 0 D cI cZ ad o [.int v1, .int v2] S M (fun r S1 M1 => Q r ∧ S = S1 ∧ M = M1) := by
  refine zm_ofi rfl hAd (Nat.le_of_ble_eq_true rfl) ?_
  intro p e s m args below meth c H locs ls X hH hl
  have hx := X.1
  have hb := X.2.1
  have hl : lv_has ls 3 [(0, .ref o), (1, .int v1), (2, .int v2)] := hl
  unfold fm_rowFault at hF
  refine lv_iload_n hx hb dX6_rowFault_0 rfl (lv_at hl 1 rfl) ?_
  refine lv_if_lt (tgt := 26) hx hb dX6_rowFault_1 (by decide) (fun cd => ?_) (fun cd => ?_)
  · have hF := hF.1 cd
    refine lv_bipush (v := (-2)) hx hb dX6_rowFault_26 (by decide) ?_
    exact zm_iret X hH rfl rfl ⟨hF, rfl, rfl⟩ dX6_rowFault_28
  · have hF := hF.2 cd
    refine lv_iload_n hx hb dX6_rowFault_4 rfl (lv_at hl 1 rfl) ?_
    refine lv_aload_n hx hb dX6_rowFault_5 rfl (lv_at hl 0 rfl) ?_
    refine zm_getf X hH 2 (by decide) rfl q1715 dX6_rowFault_6 ?_
    refine lv_icmp_ge (tgt := 26) hx hb dX6_rowFault_9 (by decide) (fun cd => ?_) (fun cd => ?_)
    · have hF := hF.1 cd
      refine lv_bipush (v := (-2)) hx hb dX6_rowFault_26 (by decide) ?_
      exact zm_iret X hH rfl rfl ⟨hF, rfl, rfl⟩ dX6_rowFault_28
    · have hF := hF.2 cd
      refine lv_iload_n hx hb dX6_rowFault_12 rfl (lv_at hl 2 rfl) ?_
      refine lv_if_lt (tgt := 26) hx hb dX6_rowFault_13 (by decide) (fun cd => ?_) (fun cd => ?_)
      · have hF := hF.1 cd
        refine lv_bipush (v := (-2)) hx hb dX6_rowFault_26 (by decide) ?_
        exact zm_iret X hH rfl rfl ⟨hF, rfl, rfl⟩ dX6_rowFault_28
      · have hF := hF.2 cd
        refine lv_iload_n hx hb dX6_rowFault_16 rfl (lv_at hl 2 rfl) ?_
        refine lv_aload_n hx hb dX6_rowFault_17 rfl (lv_at hl 0 rfl) ?_
        refine zm_getf X hH 4 (by decide) rfl q1717 dX6_rowFault_18 ?_
        refine lv_iload_n hx hb dX6_rowFault_21 rfl (lv_at hl 1 rfl) ?_
        obtain ⟨hI, hF⟩ := hF
        refine zm_iald X hH 4 (by decide) rfl (n := 8) rfl hI dX6_rowFault_22 ?_
        refine lv_icmp_lt (tgt := 29) hx hb dX6_rowFault_23 (by decide) (fun cd => ?_) (fun cd => ?_)
        · have hF := hF.1 cd
          refine lv_aload_n hx hb dX6_rowFault_29 rfl (lv_at hl 0 rfl) ?_
          refine zm_getf X hH 7 (by decide) rfl q1720 dX6_rowFault_30 ?_
          refine lv_bipush (v := 12) hx hb dX6_rowFault_33 (by decide) ?_
          refine lv_iload_n hx hb dX6_rowFault_35 rfl (lv_at hl 1 rfl) ?_
          refine lv_imul hx hb dX6_rowFault_36 ?_
          refine lv_iload_n hx hb dX6_rowFault_37 rfl (lv_at hl 2 rfl) ?_
          refine lv_iadd hx hb dX6_rowFault_38 ?_
          obtain ⟨hI, hF⟩ := hF
          refine zm_zald X hH 7 (by decide) rfl (n := 96) rfl hI dX6_rowFault_39 ?_
          refine lv_if_eq (tgt := 48) hx hb dX6_rowFault_40 (by decide) (fun cd => ?_) (fun cd => ?_)
          · have hF := hF.1 cd
            refine lv_iconst (v := 0) hx hb dX6_rowFault_48 (by decide) ?_
            exact zm_iret X hH rfl rfl ⟨hF, rfl, rfl⟩ dX6_rowFault_49
          · have hF := hF.2 cd
            refine lv_bipush (v := (-3)) hx hb dX6_rowFault_43 (by decide) ?_
            refine lv_goto (tgt := 49) hx hb dX6_rowFault_45 (by decide) ?_
            exact zm_iret X hH rfl rfl ⟨hF, rfl, rfl⟩ dX6_rowFault_49
        · have hF := hF.2 cd
          refine lv_bipush (v := (-2)) hx hb dX6_rowFault_26 (by decide) ?_
          exact zm_iret X hH rfl rfl ⟨hF, rfl, rfl⟩ dX6_rowFault_28
set_option maxHeartbeats 4000000 in
set_option maxRecDepth 100000 in
theorem wm_spotFault_37 {p : Program} {l : Launch} {e : Env} {s : State} {m : MethodId} {args : Array Value} {below : List Frame} {meth : Method} {c : Code} {D : va_G} {cI cZ : ClassId} {ad : Nat → Nat} {o : Nat} {Q : Int32 → Prop} {S0 : Nat → Int32} {M0 : Nat → Nat → Int32} (X : zm_Cx p s m args meth c cX6_spotFault 5 (some .int) D cI cZ ad o) :
    ∀ (S : Nat → Int32) (M : Nat → Nat → Int32), fm_spotFault_37 Q S M → ∀ (H : Heap) (locs : List Loc) (ls : Array Slot), S0 = S → M0 = M → lv_has ls 5 [(0, .ref o)] → zm_H D cI cZ ad o S M s H locs → W p l e (zm_R 1) s m args below meth c H locs 0 0 (MQ below (zm_QS (fun r S1 M1 => Q r ∧ S0 = S1 ∧ M0 = M1) D cI cZ ad o) args s 0 0 (zm_A ad o)) (F0 m 37 ls []) := by
  have hx := X.1
  have hb := X.2.1
  intro S M hF
  intro H locs ls eS eM hl hH
  unfold fm_spotFault_37 at hF
  refine lv_bipush (v := (-4)) hx hb dX6_spotFault_37 (by decide) ?_
  refine lv_goto (tgt := 43) hx hb dX6_spotFault_39 (by decide) ?_
  exact zm_iret X hH rfl rfl ⟨hF, eS, eM⟩ dX6_spotFault_43
set_option maxHeartbeats 4000000 in
set_option maxRecDepth 100000 in
/-- spotFault: what the bytecode asks is what its run needs -/
theorem wm_spotFault (l : Launch) (D : va_G) (cI cZ : ClassId) (ad : Nat → Nat) (o : Nat) (hAd : zm_Ad ad o) (S : Nat → Int32) (M : Nat → Nat → Int32) (v1 : Int32) (v2 : Int32) (v3 : Int32) (Q : Int32 → Prop) (hF : fm_spotFault S M v1 v2 v3 Q) :
    zm_Mi l yX6_spotFault (ws_ yX6_spotFault cX6_spotFault 5 (some .int)) 1 D cI cZ ad o [.int v1, .int v2, .int v3] S M (fun r S1 M1 => Q r ∧ S = S1 ∧ M = M1) := by
  refine zm_ofi rfl hAd (Nat.le_of_ble_eq_true rfl) ?_
  intro p e s m args below meth c H locs ls X hH hl
  have hx := X.1
  have hb := X.2.1
  have hl : lv_has ls 5 [(0, .ref o), (1, .int v1), (2, .int v2), (3, .int v3)] := hl
  unfold fm_spotFault at hF
  refine lv_aload_n hx hb dX6_spotFault_0 rfl (lv_at hl 0 rfl) ?_
  refine lv_iload_n hx hb dX6_spotFault_1 rfl (lv_at hl 1 rfl) ?_
  refine lv_iload_n hx hb dX6_spotFault_2 rfl (lv_at hl 2 rfl) ?_
  refine zm_calli (As := [.int v1, .int v2]) (rest := []) X hH (wm_rowFault l D cI cZ ad o X.2.2.2.2.2.2.2.2 S M v1 v2 _ hF) (cwV 2 X.2.2.2.2.1 (lw_V q1892 q1894 qs33 q95 q1895) rfl rfl rfl (by decide +kernel) ⟨Nat.le_of_ble_eq_true rfl, Nat.le_of_ble_eq_true rfl⟩) rfl hl.1 rfl (Nat.le_of_ble_eq_true rfl) dX6_spotFault_3 (Nat.le_refl 0) (Nat.le_refl 0) (fun r3 S1 M2 H locs hF hH => ?_)
  obtain ⟨hF, e9, e8⟩ := hF; subst e9; subst e8
  refine lv_istore (lv' := [(4, .int r3), (0, .ref o), (1, .int v1), (2, .int v2), (3, .int v3)]) hx hb dX6_spotFault_6 hl (by decide) rfl (fun ls hl => ?_)
  refine lv_iload hx hb dX6_spotFault_8 (lv_at hl 0 rfl) ?_
  refine lv_if_eq (tgt := 18) hx hb dX6_spotFault_10 (by decide) (fun cd => ?_) (fun cd => ?_)
  · have hF := hF.1 cd
    refine lv_iload_n hx hb dX6_spotFault_18 rfl (lv_at hl 4 rfl) ?_
    refine lv_if_lt (tgt := 37) hx hb dX6_spotFault_19 (by decide) (fun cd => ?_) (fun cd => ?_)
    · have hF := hF.1 cd
      exact wm_spotFault_37 X S M hF _ _ _ rfl rfl (lv_sub hl [1] rfl) hH
    · have hF := hF.2 cd
      refine lv_iload_n hx hb dX6_spotFault_22 rfl (lv_at hl 4 rfl) ?_
      refine lv_aload_n hx hb dX6_spotFault_23 rfl (lv_at hl 1 rfl) ?_
      refine zm_getf X hH 6 (by decide) rfl q1719 dX6_spotFault_24 ?_
      refine lv_bipush (v := 12) hx hb dX6_spotFault_27 (by decide) ?_
      refine lv_iload_n hx hb dX6_spotFault_29 rfl (lv_at hl 2 rfl) ?_
      refine lv_imul hx hb dX6_spotFault_30 ?_
      refine lv_iload_n hx hb dX6_spotFault_31 rfl (lv_at hl 3 rfl) ?_
      refine lv_iadd hx hb dX6_spotFault_32 ?_
      obtain ⟨hI, hF⟩ := hF
      refine zm_iald X hH 6 (by decide) rfl (n := 96) rfl hI dX6_spotFault_33 ?_
      refine lv_icmp_lt (tgt := 42) hx hb dX6_spotFault_34 (by decide) (fun cd => ?_) (fun cd => ?_)
      · have hF := hF.1 cd
        refine lv_iconst (v := 0) hx hb dX6_spotFault_42 (by decide) ?_
        exact zm_iret X hH rfl rfl ⟨hF, rfl, rfl⟩ dX6_spotFault_43
      · have hF := hF.2 cd
        exact wm_spotFault_37 X S M hF _ _ _ rfl rfl (lv_sub hl [1] rfl) hH
  · have hF := hF.2 cd
    refine lv_iload hx hb dX6_spotFault_13 (lv_at hl 0 rfl) ?_
    refine lv_goto (tgt := 43) hx hb dX6_spotFault_15 (by decide) ?_
    exact zm_iret X hH rfl rfl ⟨hF, rfl, rfl⟩ dX6_spotFault_43
set_option maxHeartbeats 4000000 in
set_option maxRecDepth 100000 in
/-- actField: what the bytecode asks is what its run needs -/
theorem wm_actField (l : Launch) (D : va_G) (cI cZ : ClassId) (ad : Nat → Nat) (o : Nat) (hAd : zm_Ad ad o) (S : Nat → Int32) (M : Nat → Nat → Int32) (v1 : Int32) (Q : Int32 → (Nat → Int32) → (Nat → Nat → Int32) → Prop) (hF : fm_actField S M v1 Q) :
    zm_Mi l yX6_actField (ws_ yX6_actField cX6_actField 2 (some .int)) 0 D cI cZ ad o [.int v1] S M Q := by
  refine zm_ofi rfl hAd (Nat.le_of_ble_eq_true rfl) ?_
  intro p e s m args below meth c H locs ls X hH hl
  have hx := X.1
  have hb := X.2.1
  have hl : lv_has ls 2 [(0, .ref o), (1, .int v1)] := hl
  unfold fm_actField at hF
  refine lv_iload_n hx hb dX6_actField_0 rfl (lv_at hl 1 rfl) ?_
  refine lv_if_lt (tgt := 18) hx hb dX6_actField_1 (by decide) (fun cd => ?_) (fun cd => ?_)
  · have hF := hF.1 cd
    refine lv_iconst (v := (-1)) hx hb dX6_actField_18 (by decide) ?_
    exact zm_iret X hH rfl rfl hF dX6_actField_19
  · have hF := hF.2 cd
    refine lv_iload_n hx hb dX6_actField_4 rfl (lv_at hl 1 rfl) ?_
    refine lv_iconst (v := 2) hx hb dX6_actField_5 (by decide) ?_
    refine lv_icmp_gt (tgt := 18) hx hb dX6_actField_6 (by decide) (fun cd => ?_) (fun cd => ?_)
    · have hF := hF.1 cd
      refine lv_iconst (v := (-1)) hx hb dX6_actField_18 (by decide) ?_
      exact zm_iret X hH rfl rfl hF dX6_actField_19
    · have hF := hF.2 cd
      refine lv_aload_n hx hb dX6_actField_9 rfl (lv_at hl 0 rfl) ?_
      refine zm_getf X hH 2 (by decide) rfl q1715 dX6_actField_10 ?_
      refine lv_bipush (v := 8) hx hb dX6_actField_13 (by decide) ?_
      refine lv_icmp_ne (tgt := 20) hx hb dX6_actField_15 (by decide) (fun cd => ?_) (fun cd => ?_)
      · have hF := hF.1 cd
        refine lv_aload_n hx hb dX6_actField_20 rfl (lv_at hl 0 rfl) ?_
        refine zm_getf X hH 3 (by decide) rfl q1716 dX6_actField_21 ?_
        refine lv_aload_n hx hb dX6_actField_24 rfl (lv_at hl 0 rfl) ?_
        refine zm_getf X hH 2 (by decide) rfl q1715 dX6_actField_25 ?_
        refine lv_iload_n hx hb dX6_actField_28 rfl (lv_at hl 1 rfl) ?_
        obtain ⟨hI, hF⟩ := hF
        refine zm_iast X hH 3 (by decide) rfl (n := 8) rfl hI dX6_actField_29 (fun M1 H locs eM1 hH => ?_)
        have hF := hF M1 eM1
        refine lv_aload_n hx hb dX6_actField_30 rfl (lv_at hl 0 rfl) ?_
        refine zm_getf X hH 4 (by decide) rfl q1717 dX6_actField_31 ?_
        refine lv_aload_n hx hb dX6_actField_34 rfl (lv_at hl 0 rfl) ?_
        refine zm_getf X hH 2 (by decide) rfl q1715 dX6_actField_35 ?_
        refine lv_iconst (v := 0) hx hb dX6_actField_38 (by decide) ?_
        obtain ⟨hI, hF⟩ := hF
        refine zm_iast X hH 4 (by decide) rfl (n := 8) rfl hI dX6_actField_39 (fun M2 H locs eM2 hH => ?_)
        have hF := hF M2 eM2
        refine lv_aload_n hx hb dX6_actField_40 rfl (lv_at hl 0 rfl) ?_
        refine lv_dup hx hb dX6_actField_41 rfl ?_
        refine zm_getf X hH 2 (by decide) rfl q1715 dX6_actField_42 ?_
        refine lv_iconst (v := 1) hx hb dX6_actField_45 (by decide) ?_
        refine lv_iadd hx hb dX6_actField_46 ?_
        refine zm_puti X hH 2 (by decide) rfl rfl (by decide +kernel) q1715 dX6_actField_47 (fun S3 H locs eS3 hH => ?_)
        have hF := hF S3 eS3
        refine lv_aload_n hx hb dX6_actField_50 rfl (lv_at hl 0 rfl) ?_
        refine zm_getf X hH 2 (by decide) rfl q1715 dX6_actField_51 ?_
        refine lv_iconst (v := 1) hx hb dX6_actField_54 (by decide) ?_
        refine lv_isub hx hb dX6_actField_55 ?_
        exact zm_iret X hH rfl rfl hF dX6_actField_56
      · have hF := hF.2 cd
        refine lv_iconst (v := (-1)) hx hb dX6_actField_18 (by decide) ?_
        exact zm_iret X hH rfl rfl hF dX6_actField_19
set_option maxHeartbeats 4000000 in
set_option maxRecDepth 100000 in
theorem wm_actRow_90 {p : Program} {l : Launch} {e : Env} {s : State} {m : MethodId} {args : Array Value} {below : List Frame} {meth : Method} {c : Code} {D : va_G} {cI cZ : ClassId} {ad : Nat → Nat} {o : Nat} {Q : Int32 → (Nat → Int32) → (Nat → Nat → Int32) → Prop} (X : zm_Cx p s m args meth c cX6_actRow 6 (some .int) D cI cZ ad o) :
    ∀ (n : Nat) (S : Nat → Int32) (M : Nat → Nat → Int32) (v1 : Int32) (v4 : Int32) (v5 : Int32), fm_actRow_90 Q n S M v1 v4 v5 → ∀ (H : Heap) (locs : List Loc) (ls : Array Slot), lv_has ls 6 [(0, .ref o), (1, .int v1), (4, .int v4), (5, .int v5)] → zm_H D cI cZ ad o S M s H locs → W p l e (zm_R 0) s m args below meth c H locs 0 0 (MQ below (zm_QS Q D cI cZ ad o) args s 0 0 (zm_A ad o)) (F0 m 90 ls []) := by
  have hx := X.1
  have hb := X.2.1
  intro n
  induction n with
  | zero =>
    intro S M v1 v4 v5 hF
    exact False.elim hF
  | succ n ih =>
    intro S M v1 v4 v5 hF
    intro H locs ls hl hH
    unfold fm_actRow_90 at hF
    refine lv_iload hx hb dX6_actRow_90 (lv_at hl 3 rfl) ?_
    refine lv_bipush (v := 30) hx hb dX6_actRow_92 (by decide) ?_
    refine lv_icmp_ge (tgt := 117) hx hb dX6_actRow_94 (by decide) (fun cd => ?_) (fun cd => ?_)
    · have hF := hF.1 cd
      refine lv_aload_n hx hb dX6_actRow_117 rfl (lv_at hl 0 rfl) ?_
      refine zm_getf X hH 4 (by decide) rfl q1717 dX6_actRow_118 ?_
      refine lv_iload_n hx hb dX6_actRow_121 rfl (lv_at hl 1 rfl) ?_
      refine lv_dup2_11 hx hb dX6_actRow_122 rfl rfl ?_
      obtain ⟨hI, hF⟩ := hF
      refine zm_iald X hH 4 (by decide) rfl (n := 8) rfl hI dX6_actRow_123 ?_
      refine lv_iconst (v := 1) hx hb dX6_actRow_124 (by decide) ?_
      refine lv_iadd hx hb dX6_actRow_125 ?_
      obtain ⟨hI, hF⟩ := hF
      refine zm_iast X hH 4 (by decide) rfl (n := 8) rfl hI dX6_actRow_126 (fun M1 H locs eM1 hH => ?_)
      have hF := hF M1 eM1
      refine lv_aload_n hx hb dX6_actRow_127 rfl (lv_at hl 0 rfl) ?_
      refine zm_getf X hH 4 (by decide) rfl q1717 dX6_actRow_128 ?_
      refine lv_iload_n hx hb dX6_actRow_131 rfl (lv_at hl 1 rfl) ?_
      obtain ⟨hI, hF⟩ := hF
      refine zm_iald X hH 4 (by decide) rfl (n := 8) rfl hI dX6_actRow_132 ?_
      refine lv_iconst (v := 1) hx hb dX6_actRow_133 (by decide) ?_
      refine lv_isub hx hb dX6_actRow_134 ?_
      exact zm_iret X hH rfl rfl hF dX6_actRow_135
    · have hF := hF.2 cd
      refine lv_aload_n hx hb dX6_actRow_97 rfl (lv_at hl 0 rfl) ?_
      refine zm_getf X hH 8 (by decide) rfl q1721 dX6_actRow_98 ?_
      refine lv_bipush (v := 30) hx hb dX6_actRow_101 (by decide) ?_
      refine lv_iload hx hb dX6_actRow_103 (lv_at hl 2 rfl) ?_
      refine lv_imul hx hb dX6_actRow_105 ?_
      refine lv_iload hx hb dX6_actRow_106 (lv_at hl 3 rfl) ?_
      refine lv_iadd hx hb dX6_actRow_108 ?_
      refine lv_iconst (v := 0) hx hb dX6_actRow_109 (by decide) ?_
      obtain ⟨hI, hF⟩ := hF
      refine zm_iast X hH 8 (by decide) rfl (n := 2880) rfl hI dX6_actRow_110 (fun M2 H locs eM2 hH => ?_)
      have hF := hF M2 eM2
      obtain ⟨x3, ex3⟩ : ∃ z : Int32, z = v5 + 1 := ⟨_, rfl⟩
      have hF := hF x3 ex3
      refine lv_iinc (v := x3) (lv' := [(5, .int x3), (0, .ref o), (1, .int v1), (4, .int v4)]) hx hb dX6_actRow_111 hl (k := 3) rfl (by rw [ex3]; rfl) (by decide) rfl (fun ls hl => ?_)
      refine lv_goto (tgt := 90) hx hb dX6_actRow_114 (by decide) ?_
      exact ih S M2 v1 v4 x3 hF _ _ _ (lv_sub hl [1, 2, 3, 0] rfl) hH
set_option maxHeartbeats 4000000 in
set_option maxRecDepth 100000 in
/-- actRow: what the bytecode asks is what its run needs -/
theorem wm_actRow (l : Launch) (D : va_G) (cI cZ : ClassId) (ad : Nat → Nat) (o : Nat) (hAd : zm_Ad ad o) (S : Nat → Int32) (M : Nat → Nat → Int32) (v1 : Int32) (v2 : Int32) (v3 : Int32) (Q : Int32 → (Nat → Int32) → (Nat → Nat → Int32) → Prop) (hF : fm_actRow S M v1 v2 v3 Q) :
    zm_Mi l yX6_actRow (ws_ yX6_actRow cX6_actRow 6 (some .int)) 0 D cI cZ ad o [.int v1, .int v2, .int v3] S M Q := by
  refine zm_ofi rfl hAd (Nat.le_of_ble_eq_true rfl) ?_
  intro p e s m args below meth c H locs ls X hH hl
  have hx := X.1
  have hb := X.2.1
  have hl : lv_has ls 6 [(0, .ref o), (1, .int v1), (2, .int v2), (3, .int v3)] := hl
  unfold fm_actRow at hF
  refine lv_iload_n hx hb dX6_actRow_0 rfl (lv_at hl 1 rfl) ?_
  refine lv_if_lt (tgt := 12) hx hb dX6_actRow_1 (by decide) (fun cd => ?_) (fun cd => ?_)
  · have hF := hF.1 cd
    refine lv_bipush (v := (-2)) hx hb dX6_actRow_12 (by decide) ?_
    exact zm_iret X hH rfl rfl hF dX6_actRow_14
  · have hF := hF.2 cd
    refine lv_iload_n hx hb dX6_actRow_4 rfl (lv_at hl 1 rfl) ?_
    refine lv_aload_n hx hb dX6_actRow_5 rfl (lv_at hl 0 rfl) ?_
    refine zm_getf X hH 2 (by decide) rfl q1715 dX6_actRow_6 ?_
    refine lv_icmp_lt (tgt := 15) hx hb dX6_actRow_9 (by decide) (fun cd => ?_) (fun cd => ?_)
    · have hF := hF.1 cd
      refine lv_iload_n hx hb dX6_actRow_15 rfl (lv_at hl 2 rfl) ?_
      refine lv_if_lt (tgt := 41) hx hb dX6_actRow_16 (by decide) (fun cd => ?_) (fun cd => ?_)
      · have hF := hF.1 cd
        refine lv_iconst (v := (-1)) hx hb dX6_actRow_41 (by decide) ?_
        exact zm_iret X hH rfl rfl hF dX6_actRow_42
      · have hF := hF.2 cd
        refine lv_iload_n hx hb dX6_actRow_19 rfl (lv_at hl 2 rfl) ?_
        refine lv_iconst (v := 3) hx hb dX6_actRow_20 (by decide) ?_
        refine lv_icmp_gt (tgt := 41) hx hb dX6_actRow_21 (by decide) (fun cd => ?_) (fun cd => ?_)
        · have hF := hF.1 cd
          refine lv_iconst (v := (-1)) hx hb dX6_actRow_41 (by decide) ?_
          exact zm_iret X hH rfl rfl hF dX6_actRow_42
        · have hF := hF.2 cd
          refine lv_aload_n hx hb dX6_actRow_24 rfl (lv_at hl 0 rfl) ?_
          refine zm_getf X hH 4 (by decide) rfl q1717 dX6_actRow_25 ?_
          refine lv_iload_n hx hb dX6_actRow_28 rfl (lv_at hl 1 rfl) ?_
          obtain ⟨hI, hF⟩ := hF
          refine zm_iald X hH 4 (by decide) rfl (n := 8) rfl hI dX6_actRow_29 ?_
          refine lv_bipush (v := 12) hx hb dX6_actRow_30 (by decide) ?_
          refine lv_icmp_eq (tgt := 41) hx hb dX6_actRow_32 (by decide) (fun cd => ?_) (fun cd => ?_)
          · have hF := hF.1 cd
            refine lv_iconst (v := (-1)) hx hb dX6_actRow_41 (by decide) ?_
            exact zm_iret X hH rfl rfl hF dX6_actRow_42
          · have hF := hF.2 cd
            refine lv_iload_n hx hb dX6_actRow_35 rfl (lv_at hl 3 rfl) ?_
            refine lv_bipush (v := 30) hx hb dX6_actRow_36 (by decide) ?_
            refine lv_icmp_le (tgt := 43) hx hb dX6_actRow_38 (by decide) (fun cd => ?_) (fun cd => ?_)
            · have hF := hF.1 cd
              refine lv_iload_n hx hb dX6_actRow_43 rfl (lv_at hl 3 rfl) ?_
              refine lv_if_ge (tgt := 50) hx hb dX6_actRow_44 (by decide) (fun cd => ?_) (fun cd => ?_)
              · have hF := hF.1 cd
                refine lv_bipush (v := 12) hx hb dX6_actRow_50 (by decide) ?_
                refine lv_iload_n hx hb dX6_actRow_52 rfl (lv_at hl 1 rfl) ?_
                refine lv_imul hx hb dX6_actRow_53 ?_
                refine lv_aload_n hx hb dX6_actRow_54 rfl (lv_at hl 0 rfl) ?_
                refine zm_getf X hH 4 (by decide) rfl q1717 dX6_actRow_55 ?_
                refine lv_iload_n hx hb dX6_actRow_58 rfl (lv_at hl 1 rfl) ?_
                obtain ⟨hI, hF⟩ := hF
                refine zm_iald X hH 4 (by decide) rfl (n := 8) rfl hI dX6_actRow_59 ?_
                refine lv_iadd hx hb dX6_actRow_60 ?_
                refine lv_topi (fun x1 ex1 => ?_)
                have hF := hF x1 ex1
                refine lv_istore (lv' := [(4, .int x1), (0, .ref o), (1, .int v1), (2, .int v2), (3, .int v3)]) hx hb dX6_actRow_61 hl (by decide) rfl (fun ls hl => ?_)
                refine lv_aload_n hx hb dX6_actRow_63 rfl (lv_at hl 1 rfl) ?_
                refine zm_getf X hH 5 (by decide) rfl q1718 dX6_actRow_64 ?_
                refine lv_iload hx hb dX6_actRow_67 (lv_at hl 0 rfl) ?_
                refine lv_iload_n hx hb dX6_actRow_69 rfl (lv_at hl 3 rfl) ?_
                obtain ⟨hI, hF⟩ := hF
                refine zm_iast X hH 5 (by decide) rfl (n := 96) rfl hI dX6_actRow_70 (fun M2 H locs eM2 hH => ?_)
                have hF := hF M2 eM2
                refine lv_aload_n hx hb dX6_actRow_71 rfl (lv_at hl 1 rfl) ?_
                refine zm_getf X hH 6 (by decide) rfl q1719 dX6_actRow_72 ?_
                refine lv_iload hx hb dX6_actRow_75 (lv_at hl 0 rfl) ?_
                refine lv_iload_n hx hb dX6_actRow_77 rfl (lv_at hl 4 rfl) ?_
                obtain ⟨hI, hF⟩ := hF
                refine zm_iast X hH 6 (by decide) rfl (n := 96) rfl hI dX6_actRow_78 (fun M3 H locs eM3 hH => ?_)
                have hF := hF M3 eM3
                refine lv_aload_n hx hb dX6_actRow_79 rfl (lv_at hl 1 rfl) ?_
                refine zm_getf X hH 7 (by decide) rfl q1720 dX6_actRow_80 ?_
                refine lv_iload hx hb dX6_actRow_83 (lv_at hl 0 rfl) ?_
                refine lv_iconst (v := 0) hx hb dX6_actRow_85 (by decide) ?_
                obtain ⟨hI, hF⟩ := hF
                refine zm_zast X hH 7 (by decide) rfl (n := 96) rfl hI dX6_actRow_86 (fun M4 H locs eM4 hH => ?_)
                have hF := hF M4 eM4
                refine lv_iconst (v := 0) hx hb dX6_actRow_87 (by decide) ?_
                refine lv_istore (lv' := [(5, .int 0), (4, .int x1), (0, .ref o), (1, .int v1), (2, .int v2), (3, .int v3)]) hx hb dX6_actRow_88 hl (by decide) rfl (fun ls hl => ?_)
                obtain ⟨n9, hF⟩ := hF
                exact wm_actRow_90 X n9 S M4 v1 x1 0 hF _ _ _ (lv_sub hl [2, 3, 1, 0] rfl) hH
              · have hF := hF.2 cd
                refine lv_bipush (v := (-5)) hx hb dX6_actRow_47 (by decide) ?_
                exact zm_iret X hH rfl rfl hF dX6_actRow_49
            · have hF := hF.2 cd
              refine lv_iconst (v := (-1)) hx hb dX6_actRow_41 (by decide) ?_
              exact zm_iret X hH rfl rfl hF dX6_actRow_42
    · have hF := hF.2 cd
      refine lv_bipush (v := (-2)) hx hb dX6_actRow_12 (by decide) ?_
      exact zm_iret X hH rfl rfl hF dX6_actRow_14
set_option maxHeartbeats 4000000 in
set_option maxRecDepth 100000 in
theorem wm_actTear_16 {p : Program} {l : Launch} {e : Env} {s : State} {m : MethodId} {args : Array Value} {below : List Frame} {meth : Method} {c : Code} {D : va_G} {cI cZ : ClassId} {ad : Nat → Nat} {o : Nat} {Q : Int32 → (Nat → Int32) → (Nat → Nat → Int32) → Prop} (X : zm_Cx p s m args meth c cX6_actTear 5 (some .int) D cI cZ ad o) :
    ∀ (n : Nat) (S : Nat → Int32) (M : Nat → Nat → Int32) (v1 : Int32) (v2 : Int32) (v4 : Int32), fm_actTear_16 Q n S M v1 v2 v4 → ∀ (H : Heap) (locs : List Loc) (ls : Array Slot), lv_has ls 5 [(0, .ref o), (1, .int v1), (2, .int v2), (4, .int v4)] → zm_H D cI cZ ad o S M s H locs → W p l e (zm_R 1) s m args below meth c H locs 0 0 (MQ below (zm_QS Q D cI cZ ad o) args s 0 0 (zm_A ad o)) (F0 m 16 ls []) := by
  have hx := X.1
  have hb := X.2.1
  intro n
  induction n with
  | zero =>
    intro S M v1 v2 v4 hF
    exact False.elim hF
  | succ n ih =>
    intro S M v1 v2 v4 hF
    intro H locs ls hl hH
    unfold fm_actTear_16 at hF
    refine lv_iload hx hb dX6_actTear_16 (lv_at hl 3 rfl) ?_
    refine lv_aload_n hx hb dX6_actTear_18 rfl (lv_at hl 0 rfl) ?_
    refine zm_getf X hH 6 (by decide) rfl q1719 dX6_actTear_19 ?_
    refine lv_bipush (v := 12) hx hb dX6_actTear_22 (by decide) ?_
    refine lv_iload_n hx hb dX6_actTear_24 rfl (lv_at hl 1 rfl) ?_
    refine lv_imul hx hb dX6_actTear_25 ?_
    refine lv_iload_n hx hb dX6_actTear_26 rfl (lv_at hl 2 rfl) ?_
    refine lv_iadd hx hb dX6_actTear_27 ?_
    obtain ⟨hI, hF⟩ := hF
    refine zm_iald X hH 6 (by decide) rfl (n := 96) rfl hI dX6_actTear_28 ?_
    refine lv_icmp_ge (tgt := 63) hx hb dX6_actTear_29 (by decide) (fun cd => ?_) (fun cd => ?_)
    · have hF := hF.1 cd
      refine lv_aload_n hx hb dX6_actTear_63 rfl (lv_at hl 0 rfl) ?_
      refine zm_getf X hH 7 (by decide) rfl q1720 dX6_actTear_64 ?_
      refine lv_bipush (v := 12) hx hb dX6_actTear_67 (by decide) ?_
      refine lv_iload_n hx hb dX6_actTear_69 rfl (lv_at hl 1 rfl) ?_
      refine lv_imul hx hb dX6_actTear_70 ?_
      refine lv_iload_n hx hb dX6_actTear_71 rfl (lv_at hl 2 rfl) ?_
      refine lv_iadd hx hb dX6_actTear_72 ?_
      refine lv_iconst (v := 1) hx hb dX6_actTear_73 (by decide) ?_
      obtain ⟨hI, hF⟩ := hF
      refine zm_zast X hH 7 (by decide) rfl (n := 96) rfl hI dX6_actTear_74 (fun M1 H locs eM1 hH => ?_)
      have hF := hF M1 eM1
      refine lv_iconst (v := 0) hx hb dX6_actTear_75 (by decide) ?_
      exact zm_iret X hH rfl rfl hF dX6_actTear_76
    · have hF := hF.2 cd
      refine lv_aload_n hx hb dX6_actTear_32 rfl (lv_at hl 0 rfl) ?_
      refine zm_getf X hH 8 (by decide) rfl q1721 dX6_actTear_33 ?_
      refine lv_bipush (v := 30) hx hb dX6_actTear_36 (by decide) ?_
      refine lv_bipush (v := 12) hx hb dX6_actTear_38 (by decide) ?_
      refine lv_iload_n hx hb dX6_actTear_40 rfl (lv_at hl 1 rfl) ?_
      refine lv_imul hx hb dX6_actTear_41 ?_
      refine lv_iload_n hx hb dX6_actTear_42 rfl (lv_at hl 2 rfl) ?_
      refine lv_iadd hx hb dX6_actTear_43 ?_
      refine lv_imul hx hb dX6_actTear_44 ?_
      refine lv_iload hx hb dX6_actTear_45 (lv_at hl 3 rfl) ?_
      refine lv_iadd hx hb dX6_actTear_47 ?_
      obtain ⟨hI, hF⟩ := hF
      refine zm_iald X hH 8 (by decide) rfl (n := 2880) rfl hI dX6_actTear_48 ?_
      refine lv_bipush (v := 10) hx hb dX6_actTear_49 (by decide) ?_
      refine lv_icmp_lt (tgt := 57) hx hb dX6_actTear_51 (by decide) (fun cd => ?_) (fun cd => ?_)
      · have hF := hF.1 cd
        obtain ⟨x2, ex2⟩ : ∃ z : Int32, z = v4 + 1 := ⟨_, rfl⟩
        have hF := hF x2 ex2
        refine lv_iinc (v := x2) (lv' := [(4, .int x2), (0, .ref o), (1, .int v1), (2, .int v2)]) hx hb dX6_actTear_57 hl (k := 3) rfl (by rw [ex2]; rfl) (by decide) rfl (fun ls hl => ?_)
        refine lv_goto (tgt := 16) hx hb dX6_actTear_60 (by decide) ?_
        exact ih S M v1 v2 x2 hF _ _ _ (lv_sub hl [1, 2, 3, 0] rfl) hH
      · have hF := hF.2 cd
        refine lv_bipush (v := (-6)) hx hb dX6_actTear_54 (by decide) ?_
        exact zm_iret X hH rfl rfl hF dX6_actTear_56
set_option maxHeartbeats 4000000 in
set_option maxRecDepth 100000 in
/-- actTear: what the bytecode asks is what its run needs -/
theorem wm_actTear (l : Launch) (D : va_G) (cI cZ : ClassId) (ad : Nat → Nat) (o : Nat) (hAd : zm_Ad ad o) (S : Nat → Int32) (M : Nat → Nat → Int32) (v1 : Int32) (v2 : Int32) (Q : Int32 → (Nat → Int32) → (Nat → Nat → Int32) → Prop) (hF : fm_actTear S M v1 v2 Q) :
    zm_Mi l yX6_actTear (ws_ yX6_actTear cX6_actTear 5 (some .int)) 1 D cI cZ ad o [.int v1, .int v2] S M Q := by
  refine zm_ofi rfl hAd (Nat.le_of_ble_eq_true rfl) ?_
  intro p e s m args below meth c H locs ls X hH hl
  have hx := X.1
  have hb := X.2.1
  have hl : lv_has ls 5 [(0, .ref o), (1, .int v1), (2, .int v2)] := hl
  unfold fm_actTear at hF
  refine lv_aload_n hx hb dX6_actTear_0 rfl (lv_at hl 0 rfl) ?_
  refine lv_iload_n hx hb dX6_actTear_1 rfl (lv_at hl 1 rfl) ?_
  refine lv_iload_n hx hb dX6_actTear_2 rfl (lv_at hl 2 rfl) ?_
  refine zm_calli (As := [.int v1, .int v2]) (rest := []) X hH (wm_rowFault l D cI cZ ad o X.2.2.2.2.2.2.2.2 S M v1 v2 _ hF) (cwV 2 X.2.2.2.2.1 (lw_V q1892 q1894 qs33 q95 q1895) rfl rfl rfl (by decide +kernel) ⟨Nat.le_of_ble_eq_true rfl, Nat.le_of_ble_eq_true rfl⟩) rfl hl.1 rfl (Nat.le_of_ble_eq_true rfl) dX6_actTear_3 (Nat.le_refl 0) (Nat.le_refl 0) (fun r3 S1 M2 H locs hF hH => ?_)
  obtain ⟨hF, e9, e8⟩ := hF; subst e9; subst e8
  refine lv_istore_n (lv' := [(3, .int r3), (0, .ref o), (1, .int v1), (2, .int v2)]) hx hb dX6_actTear_6 rfl hl (by decide) rfl (fun ls hl => ?_)
  refine lv_iload_n hx hb dX6_actTear_7 rfl (lv_at hl 0 rfl) ?_
  refine lv_if_eq (tgt := 13) hx hb dX6_actTear_8 (by decide) (fun cd => ?_) (fun cd => ?_)
  · have hF := hF.1 cd
    refine lv_iconst (v := 0) hx hb dX6_actTear_13 (by decide) ?_
    refine lv_istore (lv' := [(4, .int 0), (3, .int r3), (0, .ref o), (1, .int v1), (2, .int v2)]) hx hb dX6_actTear_14 hl (by decide) rfl (fun ls hl => ?_)
    obtain ⟨n9, hF⟩ := hF
    exact wm_actTear_16 X n9 S M v1 v2 0 hF _ _ _ (lv_sub hl [2, 3, 4, 0] rfl) hH
  · have hF := hF.2 cd
    refine lv_iload_n hx hb dX6_actTear_11 rfl (lv_at hl 0 rfl) ?_
    exact zm_iret X hH rfl rfl hF dX6_actTear_12
set_option maxHeartbeats 4000000 in
set_option maxRecDepth 100000 in
theorem wm_fearsTrees_21 {p : Program} {l : Launch} {e : Env} {s : State} {m : MethodId} {args : Array Value} {below : List Frame} {meth : Method} {c : Code} {D : va_G} {cI cZ : ClassId} {ad : Nat → Nat} {o : Nat} {Q : Int32 → Prop} {S0 : Nat → Int32} {M0 : Nat → Nat → Int32} (X : zm_Cx p s m args meth c cX6_fearsTrees 2 (some .boolean) D cI cZ ad o) :
    ∀ (S : Nat → Int32) (M : Nat → Nat → Int32), fm_fearsTrees_21 Q S M → ∀ (H : Heap) (locs : List Loc) (ls : Array Slot), S0 = S → M0 = M → lv_has ls 2 [(0, .ref o)] → zm_H D cI cZ ad o S M s H locs → W p l e (zm_R 0) s m args below meth c H locs 0 0 (MQ below (zm_QS (fun r S1 M1 => Q r ∧ S0 = S1 ∧ M0 = M1) D cI cZ ad o) args s 0 0 (zm_A ad o)) (F0 m 21 ls []) := by
  have hx := X.1
  have hb := X.2.1
  intro S M hF
  intro H locs ls eS eM hl hH
  unfold fm_fearsTrees_21 at hF
  refine lv_iconst (v := 1) hx hb dX6_fearsTrees_21 (by decide) ?_
  refine lv_goto (tgt := 26) hx hb dX6_fearsTrees_22 (by decide) ?_
  exact zm_iret X hH rfl rfl ⟨hF, eS, eM⟩ dX6_fearsTrees_26
set_option maxHeartbeats 4000000 in
set_option maxRecDepth 100000 in
/-- fearsTrees: what the bytecode asks is what its run needs -/
theorem wm_fearsTrees (l : Launch) (D : va_G) (cI cZ : ClassId) (ad : Nat → Nat) (o : Nat) (hAd : zm_Ad ad o) (S : Nat → Int32) (M : Nat → Nat → Int32) (v1 : Int32) (Q : Int32 → Prop) (hF : fm_fearsTrees S M v1 Q) :
    zm_Mi l yX6_fearsTrees (ws_ yX6_fearsTrees cX6_fearsTrees 2 (some .boolean)) 0 D cI cZ ad o [.int v1] S M (fun r S1 M1 => Q r ∧ S = S1 ∧ M = M1) := by
  refine zm_ofi rfl hAd (Nat.le_of_ble_eq_true rfl) ?_
  intro p e s m args below meth c H locs ls X hH hl
  have hx := X.1
  have hb := X.2.1
  have hl : lv_has ls 2 [(0, .ref o), (1, .int v1)] := hl
  unfold fm_fearsTrees at hF
  refine lv_iload_n hx hb dX6_fearsTrees_0 rfl (lv_at hl 1 rfl) ?_
  refine lv_iconst (v := 1) hx hb dX6_fearsTrees_1 (by decide) ?_
  refine lv_icmp_eq (tgt := 21) hx hb dX6_fearsTrees_2 (by decide) (fun cd => ?_) (fun cd => ?_)
  · have hF := hF.1 cd
    exact wm_fearsTrees_21 X S M hF _ _ _ rfl rfl (lv_sub hl [0] rfl) hH
  · have hF := hF.2 cd
    refine lv_iload_n hx hb dX6_fearsTrees_5 rfl (lv_at hl 1 rfl) ?_
    refine lv_iconst (v := 2) hx hb dX6_fearsTrees_6 (by decide) ?_
    refine lv_icmp_eq (tgt := 21) hx hb dX6_fearsTrees_7 (by decide) (fun cd => ?_) (fun cd => ?_)
    · have hF := hF.1 cd
      exact wm_fearsTrees_21 X S M hF _ _ _ rfl rfl (lv_sub hl [0] rfl) hH
    · have hF := hF.2 cd
      refine lv_iload_n hx hb dX6_fearsTrees_10 rfl (lv_at hl 1 rfl) ?_
      refine lv_iconst (v := 3) hx hb dX6_fearsTrees_11 (by decide) ?_
      refine lv_icmp_eq (tgt := 21) hx hb dX6_fearsTrees_12 (by decide) (fun cd => ?_) (fun cd => ?_)
      · have hF := hF.1 cd
        exact wm_fearsTrees_21 X S M hF _ _ _ rfl rfl (lv_sub hl [0] rfl) hH
      · have hF := hF.2 cd
        refine lv_iload_n hx hb dX6_fearsTrees_15 rfl (lv_at hl 1 rfl) ?_
        refine lv_bipush (v := 6) hx hb dX6_fearsTrees_16 (by decide) ?_
        refine lv_icmp_ne (tgt := 25) hx hb dX6_fearsTrees_18 (by decide) (fun cd => ?_) (fun cd => ?_)
        · have hF := hF.1 cd
          refine lv_iconst (v := 0) hx hb dX6_fearsTrees_25 (by decide) ?_
          exact zm_iret X hH rfl rfl ⟨hF, rfl, rfl⟩ dX6_fearsTrees_26
        · have hF := hF.2 cd
          exact wm_fearsTrees_21 X S M hF _ _ _ rfl rfl (lv_sub hl [0] rfl) hH
set_option maxHeartbeats 4000000 in
set_option maxRecDepth 100000 in
/-- isTender: what the bytecode asks is what its run needs -/
theorem wm_isTender (l : Launch) (D : va_G) (cI cZ : ClassId) (ad : Nat → Nat) (o : Nat) (hAd : zm_Ad ad o) (S : Nat → Int32) (M : Nat → Nat → Int32) (v1 : Int32) (v2 : Int32) (Q : Int32 → Prop) (hF : fm_isTender S M v1 v2 Q) :
    zm_Mi l yX6_isTender (ws_ yX6_isTender cX6_isTender 3 (some .boolean)) 1 D cI cZ ad o [.int v1, .int v2] S M (fun r S1 M1 => Q r ∧ S = S1 ∧ M = M1) := by
  refine zm_ofi rfl hAd (Nat.le_of_ble_eq_true rfl) ?_
  intro p e s m args below meth c H locs ls X hH hl
  have hx := X.1
  have hb := X.2.1
  have hl : lv_has ls 3 [(0, .ref o), (1, .int v1), (2, .int v2)] := hl
  unfold fm_isTender at hF
  refine lv_iload_n hx hb dX6_isTender_0 rfl (lv_at hl 2 rfl) ?_
  refine lv_if_lt (tgt := 30) hx hb dX6_isTender_1 (by decide) (fun cd => ?_) (fun cd => ?_)
  · have hF := hF.1 cd
    refine lv_iconst (v := 0) hx hb dX6_isTender_30 (by decide) ?_
    exact zm_iret X hH rfl rfl ⟨hF, rfl, rfl⟩ dX6_isTender_31
  · have hF := hF.2 cd
    refine lv_iload_n hx hb dX6_isTender_4 rfl (lv_at hl 2 rfl) ?_
    refine lv_aload_n hx hb dX6_isTender_5 rfl (lv_at hl 0 rfl) ?_
    refine zm_getf X hH 6 (by decide) rfl q1719 dX6_isTender_6 ?_
    refine lv_iload_n hx hb dX6_isTender_9 rfl (lv_at hl 1 rfl) ?_
    obtain ⟨hI, hF⟩ := hF
    refine zm_iald X hH 6 (by decide) rfl (n := 96) rfl hI dX6_isTender_10 ?_
    refine lv_icmp_ge (tgt := 30) hx hb dX6_isTender_11 (by decide) (fun cd => ?_) (fun cd => ?_)
    · have hF := hF.1 cd
      refine lv_iconst (v := 0) hx hb dX6_isTender_30 (by decide) ?_
      exact zm_iret X hH rfl rfl ⟨hF, rfl, rfl⟩ dX6_isTender_31
    · have hF := hF.2 cd
      refine lv_aload_n hx hb dX6_isTender_14 rfl (lv_at hl 0 rfl) ?_
      refine zm_getf X hH 8 (by decide) rfl q1721 dX6_isTender_15 ?_
      refine lv_bipush (v := 30) hx hb dX6_isTender_18 (by decide) ?_
      refine lv_iload_n hx hb dX6_isTender_20 rfl (lv_at hl 1 rfl) ?_
      refine lv_imul hx hb dX6_isTender_21 ?_
      refine lv_iload_n hx hb dX6_isTender_22 rfl (lv_at hl 2 rfl) ?_
      refine lv_iadd hx hb dX6_isTender_23 ?_
      obtain ⟨hI, hF⟩ := hF
      refine zm_iald X hH 8 (by decide) rfl (n := 2880) rfl hI dX6_isTender_24 ?_
      refine lv_bipush (v := 10) hx hb dX6_isTender_25 (by decide) ?_
      refine lv_icmp_ge (tgt := 32) hx hb dX6_isTender_27 (by decide) (fun cd => ?_) (fun cd => ?_)
      · have hF := hF.1 cd
        refine lv_aload_n hx hb dX6_isTender_32 rfl (lv_at hl 0 rfl) ?_
        refine lv_aload_n hx hb dX6_isTender_33 rfl (lv_at hl 0 rfl) ?_
        refine zm_getf X hH 10 (by decide) rfl q1723 dX6_isTender_34 ?_
        refine lv_aload_n hx hb dX6_isTender_37 rfl (lv_at hl 0 rfl) ?_
        refine zm_getf X hH 8 (by decide) rfl q1721 dX6_isTender_38 ?_
        refine lv_bipush (v := 30) hx hb dX6_isTender_41 (by decide) ?_
        refine lv_iload_n hx hb dX6_isTender_43 rfl (lv_at hl 1 rfl) ?_
        refine lv_imul hx hb dX6_isTender_44 ?_
        refine lv_iload_n hx hb dX6_isTender_45 rfl (lv_at hl 2 rfl) ?_
        refine lv_iadd hx hb dX6_isTender_46 ?_
        obtain ⟨hI, hF⟩ := hF
        refine zm_iald X hH 8 (by decide) rfl (n := 2880) rfl hI dX6_isTender_47 ?_
        refine lv_bipush (v := 10) hx hb dX6_isTender_48 (by decide) ?_
        refine lv_isub hx hb dX6_isTender_50 ?_
        obtain ⟨hI, hF⟩ := hF
        refine zm_iald X hH 10 (by decide) rfl (n := 150) rfl hI dX6_isTender_51 ?_
        refine zm_calli (As := [.int (M 10 ((M 8 ((30 * v1) + v2).toNatClampNeg) - 10).toNatClampNeg)]) (rest := []) X hH (wm_fearsTrees l D cI cZ ad o X.2.2.2.2.2.2.2.2 S M (M 10 ((M 8 ((30 * v1) + v2).toNatClampNeg) - 10).toNatClampNeg) _ hF) (cwV 1 X.2.2.2.2.1 (lw_V q1908 q1910 qs37 q95 q1911) rfl rfl rfl (by decide +kernel) ⟨Nat.le_of_ble_eq_true rfl, Nat.le_of_ble_eq_true rfl⟩) rfl hl.1 rfl (Nat.le_of_ble_eq_true rfl) dX6_isTender_52 (Nat.le_refl 0) (Nat.le_refl 0) (fun r3 S1 M2 H locs hF hH => ?_)
        obtain ⟨hF, e9, e8⟩ := hF; subst e9; subst e8
        obtain ⟨hZ, hF⟩ := hF
        exact zm_iret X hH rfl (by rcases hZ with h | h <;> rw [h] <;> rfl) ⟨hF, rfl, rfl⟩ dX6_isTender_55
      · have hF := hF.2 cd
        refine lv_iconst (v := 0) hx hb dX6_isTender_30 (by decide) ?_
        exact zm_iret X hH rfl rfl ⟨hF, rfl, rfl⟩ dX6_isTender_31
set_option maxHeartbeats 4000000 in
set_option maxRecDepth 100000 in
/-- isTree: what the bytecode asks is what its run needs -/
theorem wm_isTree (l : Launch) (D : va_G) (cI cZ : ClassId) (ad : Nat → Nat) (o : Nat) (hAd : zm_Ad ad o) (S : Nat → Int32) (M : Nat → Nat → Int32) (v1 : Int32) (v2 : Int32) (Q : Int32 → Prop) (hF : fm_isTree S M v1 v2 Q) :
    zm_Mi l yX6_isTree (ws_ yX6_isTree cX6_isTree 3 (some .boolean)) 0 D cI cZ ad o [.int v1, .int v2] S M (fun r S1 M1 => Q r ∧ S = S1 ∧ M = M1) := by
  refine zm_ofi rfl hAd (Nat.le_of_ble_eq_true rfl) ?_
  intro p e s m args below meth c H locs ls X hH hl
  have hx := X.1
  have hb := X.2.1
  have hl : lv_has ls 3 [(0, .ref o), (1, .int v1), (2, .int v2)] := hl
  unfold fm_isTree at hF
  refine lv_iload_n hx hb dX6_isTree_0 rfl (lv_at hl 2 rfl) ?_
  refine lv_if_lt (tgt := 33) hx hb dX6_isTree_1 (by decide) (fun cd => ?_) (fun cd => ?_)
  · have hF := hF.1 cd
    refine lv_iconst (v := 0) hx hb dX6_isTree_33 (by decide) ?_
    exact zm_iret X hH rfl rfl ⟨hF, rfl, rfl⟩ dX6_isTree_34
  · have hF := hF.2 cd
    refine lv_iload_n hx hb dX6_isTree_4 rfl (lv_at hl 2 rfl) ?_
    refine lv_aload_n hx hb dX6_isTree_5 rfl (lv_at hl 0 rfl) ?_
    refine zm_getf X hH 6 (by decide) rfl q1719 dX6_isTree_6 ?_
    refine lv_iload_n hx hb dX6_isTree_9 rfl (lv_at hl 1 rfl) ?_
    obtain ⟨hI, hF⟩ := hF
    refine zm_iald X hH 6 (by decide) rfl (n := 96) rfl hI dX6_isTree_10 ?_
    refine lv_icmp_ge (tgt := 33) hx hb dX6_isTree_11 (by decide) (fun cd => ?_) (fun cd => ?_)
    · have hF := hF.1 cd
      refine lv_iconst (v := 0) hx hb dX6_isTree_33 (by decide) ?_
      exact zm_iret X hH rfl rfl ⟨hF, rfl, rfl⟩ dX6_isTree_34
    · have hF := hF.2 cd
      refine lv_aload_n hx hb dX6_isTree_14 rfl (lv_at hl 0 rfl) ?_
      refine zm_getf X hH 8 (by decide) rfl q1721 dX6_isTree_15 ?_
      refine lv_bipush (v := 30) hx hb dX6_isTree_18 (by decide) ?_
      refine lv_iload_n hx hb dX6_isTree_20 rfl (lv_at hl 1 rfl) ?_
      refine lv_imul hx hb dX6_isTree_21 ?_
      refine lv_iload_n hx hb dX6_isTree_22 rfl (lv_at hl 2 rfl) ?_
      refine lv_iadd hx hb dX6_isTree_23 ?_
      obtain ⟨hI, hF⟩ := hF
      refine zm_iald X hH 8 (by decide) rfl (n := 2880) rfl hI dX6_isTree_24 ?_
      refine lv_iconst (v := 1) hx hb dX6_isTree_25 (by decide) ?_
      refine lv_icmp_ne (tgt := 33) hx hb dX6_isTree_26 (by decide) (fun cd => ?_) (fun cd => ?_)
      · have hF := hF.1 cd
        refine lv_iconst (v := 0) hx hb dX6_isTree_33 (by decide) ?_
        exact zm_iret X hH rfl rfl ⟨hF, rfl, rfl⟩ dX6_isTree_34
      · have hF := hF.2 cd
        refine lv_iconst (v := 1) hx hb dX6_isTree_29 (by decide) ?_
        refine lv_goto (tgt := 34) hx hb dX6_isTree_30 (by decide) ?_
        exact zm_iret X hH rfl rfl ⟨hF, rfl, rfl⟩ dX6_isTree_34
set_option maxHeartbeats 4000000 in
set_option maxRecDepth 100000 in
theorem wm_actPlace_109 {p : Program} {l : Launch} {e : Env} {s : State} {m : MethodId} {args : Array Value} {below : List Frame} {meth : Method} {c : Code} {D : va_G} {cI cZ : ClassId} {ad : Nat → Nat} {o : Nat} {Q : Int32 → (Nat → Int32) → (Nat → Nat → Int32) → Prop} (X : zm_Cx p s m args meth c cX6_actPlace 7 (some .int) D cI cZ ad o) :
    ∀ (S : Nat → Int32) (M : Nat → Nat → Int32) (v3 : Int32) (v4 : Int32) (v6 : Int32), fm_actPlace_109 Q S M v3 v4 v6 → ∀ (H : Heap) (locs : List Loc) (ls : Array Slot), lv_has ls 7 [(0, .ref o), (3, .int v3), (4, .int v4), (6, .int v6)] → zm_H D cI cZ ad o S M s H locs → W p l e (zm_R 2) s m args below meth c H locs 0 0 (MQ below (zm_QS Q D cI cZ ad o) args s 0 0 (zm_A ad o)) (F0 m 109 ls []) := by
  have hx := X.1
  have hb := X.2.1
  intro S M v3 v4 v6 hF
  intro H locs ls hl hH
  unfold fm_actPlace_109 at hF
  refine lv_aload_n hx hb dX6_actPlace_109 rfl (lv_at hl 0 rfl) ?_
  refine zm_getf X hH 8 (by decide) rfl q1721 dX6_actPlace_110 ?_
  refine lv_bipush (v := 30) hx hb dX6_actPlace_113 (by decide) ?_
  refine lv_iload hx hb dX6_actPlace_115 (lv_at hl 3 rfl) ?_
  refine lv_imul hx hb dX6_actPlace_117 ?_
  refine lv_iload_n hx hb dX6_actPlace_118 rfl (lv_at hl 1 rfl) ?_
  refine lv_iadd hx hb dX6_actPlace_119 ?_
  refine lv_iload hx hb dX6_actPlace_120 (lv_at hl 2 rfl) ?_
  obtain ⟨hI, hF⟩ := hF
  refine zm_iast X hH 8 (by decide) rfl (n := 2880) rfl hI dX6_actPlace_122 (fun M1 H locs eM1 hH => ?_)
  have hF := hF M1 eM1
  refine lv_iconst (v := 0) hx hb dX6_actPlace_123 (by decide) ?_
  exact zm_iret X hH rfl rfl hF dX6_actPlace_124
set_option maxHeartbeats 4000000 in
set_option maxRecDepth 100000 in
theorem wm_actPlace_91 {p : Program} {l : Launch} {e : Env} {s : State} {m : MethodId} {args : Array Value} {below : List Frame} {meth : Method} {c : Code} {D : va_G} {cI cZ : ClassId} {ad : Nat → Nat} {o : Nat} {Q : Int32 → (Nat → Int32) → (Nat → Nat → Int32) → Prop} (X : zm_Cx p s m args meth c cX6_actPlace 7 (some .int) D cI cZ ad o) :
    ∀ (S : Nat → Int32) (M : Nat → Nat → Int32) (v3 : Int32) (v4 : Int32) (v6 : Int32), fm_actPlace_91 Q S M v3 v4 v6 → ∀ (H : Heap) (locs : List Loc) (ls : Array Slot), lv_has ls 7 [(0, .ref o), (3, .int v3), (4, .int v4), (6, .int v6)] → zm_H D cI cZ ad o S M s H locs → W p l e (zm_R 2) s m args below meth c H locs 0 0 (MQ below (zm_QS Q D cI cZ ad o) args s 0 0 (zm_A ad o)) (F0 m 91 ls []) := by
  have hx := X.1
  have hb := X.2.1
  intro S M v3 v4 v6 hF
  intro H locs ls hl hH
  unfold fm_actPlace_91 at hF
  refine lv_iload hx hb dX6_actPlace_91 (lv_at hl 2 rfl) ?_
  refine lv_if_le (tgt := 109) hx hb dX6_actPlace_93 (by decide) (fun cd => ?_) (fun cd => ?_)
  · have hF := hF.1 cd
    exact wm_actPlace_109 X S M v3 v4 v6 hF _ _ _ (lv_sub hl [0, 1, 2, 3] rfl) hH
  · have hF := hF.2 cd
    refine lv_aload_n hx hb dX6_actPlace_96 rfl (lv_at hl 0 rfl) ?_
    refine zm_getf X hH 5 (by decide) rfl q1718 dX6_actPlace_97 ?_
    refine lv_iload hx hb dX6_actPlace_100 (lv_at hl 3 rfl) ?_
    obtain ⟨hI, hF⟩ := hF
    refine zm_iald X hH 5 (by decide) rfl (n := 96) rfl hI dX6_actPlace_102 ?_
    refine lv_if_le (tgt := 109) hx hb dX6_actPlace_103 (by decide) (fun cd => ?_) (fun cd => ?_)
    · have hF := hF.1 cd
      exact wm_actPlace_109 X S M v3 v4 v6 hF _ _ _ (lv_sub hl [0, 1, 2, 3] rfl) hH
    · have hF := hF.2 cd
      refine lv_bipush (v := (-8)) hx hb dX6_actPlace_106 (by decide) ?_
      exact zm_iret X hH rfl rfl hF dX6_actPlace_108
set_option maxHeartbeats 4000000 in
set_option maxRecDepth 100000 in
/-- actPlace: what the bytecode asks is what its run needs -/
theorem wm_actPlace (l : Launch) (D : va_G) (cI cZ : ClassId) (ad : Nat → Nat) (o : Nat) (hAd : zm_Ad ad o) (S : Nat → Int32) (M : Nat → Nat → Int32) (v1 : Int32) (v2 : Int32) (v3 : Int32) (v4 : Int32) (Q : Int32 → (Nat → Int32) → (Nat → Nat → Int32) → Prop) (hF : fm_actPlace S M v1 v2 v3 v4 Q) :
    zm_Mi l yX6_actPlace (ws_ yX6_actPlace cX6_actPlace 7 (some .int)) 2 D cI cZ ad o [.int v1, .int v2, .int v3, .int v4] S M Q := by
  refine zm_ofi rfl hAd (Nat.le_of_ble_eq_true rfl) ?_
  intro p e s m args below meth c H locs ls X hH hl
  have hx := X.1
  have hb := X.2.1
  have hl : lv_has ls 7 [(0, .ref o), (1, .int v1), (2, .int v2), (3, .int v3), (4, .int v4)] := hl
  unfold fm_actPlace at hF
  refine lv_aload_n hx hb dX6_actPlace_0 rfl (lv_at hl 0 rfl) ?_
  refine lv_iload_n hx hb dX6_actPlace_1 rfl (lv_at hl 1 rfl) ?_
  refine lv_iload_n hx hb dX6_actPlace_2 rfl (lv_at hl 2 rfl) ?_
  refine lv_iload_n hx hb dX6_actPlace_3 rfl (lv_at hl 3 rfl) ?_
  refine zm_calli (As := [.int v1, .int v2, .int v3]) (rest := []) X hH (wm_spotFault l D cI cZ ad o X.2.2.2.2.2.2.2.2 S M v1 v2 v3 _ hF) (cwV 3 X.2.2.2.2.1 (lw_V q1900 q1902 qs35 q95 q1903) rfl rfl rfl (by decide +kernel) ⟨Nat.le_of_ble_eq_true rfl, Nat.le_of_ble_eq_true rfl⟩) rfl hl.1 rfl (Nat.le_of_ble_eq_true rfl) dX6_actPlace_4 (Nat.le_refl 0) (Nat.le_refl 0) (fun r3 S1 M2 H locs hF hH => ?_)
  obtain ⟨hF, e9, e8⟩ := hF; subst e9; subst e8
  refine lv_istore (lv' := [(5, .int r3), (0, .ref o), (1, .int v1), (2, .int v2), (3, .int v3), (4, .int v4)]) hx hb dX6_actPlace_7 hl (by decide) rfl (fun ls hl => ?_)
  refine lv_iload hx hb dX6_actPlace_9 (lv_at hl 0 rfl) ?_
  refine lv_if_eq (tgt := 17) hx hb dX6_actPlace_11 (by decide) (fun cd => ?_) (fun cd => ?_)
  · have hF := hF.1 cd
    refine lv_bipush (v := 12) hx hb dX6_actPlace_17 (by decide) ?_
    refine lv_iload_n hx hb dX6_actPlace_19 rfl (lv_at hl 2 rfl) ?_
    refine lv_imul hx hb dX6_actPlace_20 ?_
    refine lv_iload_n hx hb dX6_actPlace_21 rfl (lv_at hl 3 rfl) ?_
    refine lv_iadd hx hb dX6_actPlace_22 ?_
    refine lv_topi (fun x4 ex4 => ?_)
    have hF := hF x4 ex4
    refine lv_istore (lv' := [(6, .int x4), (5, .int r3), (0, .ref o), (1, .int v1), (2, .int v2), (3, .int v3), (4, .int v4)]) hx hb dX6_actPlace_23 hl (by decide) rfl (fun ls hl => ?_)
    refine lv_iload hx hb dX6_actPlace_25 (lv_at hl 6 rfl) ?_
    refine lv_if_lt (tgt := 36) hx hb dX6_actPlace_27 (by decide) (fun cd => ?_) (fun cd => ?_)
    · have hF := hF.1 cd
      refine lv_iconst (v := (-1)) hx hb dX6_actPlace_36 (by decide) ?_
      exact zm_iret X hH rfl rfl hF dX6_actPlace_37
    · have hF := hF.2 cd
      refine lv_iload hx hb dX6_actPlace_30 (lv_at hl 6 rfl) ?_
      refine lv_iconst (v := 2) hx hb dX6_actPlace_32 (by decide) ?_
      refine lv_icmp_le (tgt := 38) hx hb dX6_actPlace_33 (by decide) (fun cd => ?_) (fun cd => ?_)
      · have hF := hF.1 cd
        refine lv_aload_n hx hb dX6_actPlace_38 rfl (lv_at hl 2 rfl) ?_
        refine zm_getf X hH 8 (by decide) rfl q1721 dX6_actPlace_39 ?_
        refine lv_bipush (v := 30) hx hb dX6_actPlace_42 (by decide) ?_
        refine lv_iload hx hb dX6_actPlace_44 (lv_at hl 0 rfl) ?_
        refine lv_imul hx hb dX6_actPlace_46 ?_
        refine lv_iload_n hx hb dX6_actPlace_47 rfl (lv_at hl 5 rfl) ?_
        refine lv_iadd hx hb dX6_actPlace_48 ?_
        obtain ⟨hI, hF⟩ := hF
        refine zm_iald X hH 8 (by decide) rfl (n := 2880) rfl hI dX6_actPlace_49 ?_
        refine lv_bipush (v := 10) hx hb dX6_actPlace_50 (by decide) ?_
        refine lv_icmp_lt (tgt := 58) hx hb dX6_actPlace_52 (by decide) (fun cd => ?_) (fun cd => ?_)
        · have hF := hF.1 cd
          refine lv_iload hx hb dX6_actPlace_58 (lv_at hl 6 rfl) ?_
          refine lv_iconst (v := 1) hx hb dX6_actPlace_60 (by decide) ?_
          refine lv_icmp_ne (tgt := 91) hx hb dX6_actPlace_61 (by decide) (fun cd => ?_) (fun cd => ?_)
          · have hF := hF.1 cd
            exact wm_actPlace_91 X S M v3 v4 x4 hF _ _ _ (lv_sub hl [2, 5, 6, 0] rfl) hH
          · have hF := hF.2 cd
            refine lv_aload_n hx hb dX6_actPlace_64 rfl (lv_at hl 2 rfl) ?_
            refine lv_iload hx hb dX6_actPlace_65 (lv_at hl 0 rfl) ?_
            refine lv_iload_n hx hb dX6_actPlace_67 rfl (lv_at hl 5 rfl) ?_
            refine lv_iconst (v := 1) hx hb dX6_actPlace_68 (by decide) ?_
            refine lv_isub hx hb dX6_actPlace_69 ?_
            refine zm_calli (As := [.int x4, .int (v3 - 1)]) (rest := []) X hH (wm_isTender l D cI cZ ad o X.2.2.2.2.2.2.2.2 S M x4 (v3 - 1) _ hF) (cwV 2 X.2.2.2.2.1 (lw_V q1904 q1906 qs36 q95 q1907) rfl rfl rfl (by decide +kernel) ⟨Nat.le_of_ble_eq_true rfl, Nat.le_of_ble_eq_true rfl⟩) rfl hl.1 rfl (Nat.le_of_ble_eq_true rfl) dX6_actPlace_70 (Nat.le_refl 0) (Nat.le_refl 0) (fun r7 S5 M6 H locs hF hH => ?_)
            obtain ⟨hF, e9, e8⟩ := hF; subst e9; subst e8
            refine lv_if_ne (tgt := 88) hx hb dX6_actPlace_73 (by decide) (fun cd => ?_) (fun cd => ?_)
            · have hF := hF.1 cd
              refine lv_bipush (v := (-7)) hx hb dX6_actPlace_88 (by decide) ?_
              exact zm_iret X hH rfl rfl hF dX6_actPlace_90
            · have hF := hF.2 cd
              refine lv_aload_n hx hb dX6_actPlace_76 rfl (lv_at hl 2 rfl) ?_
              refine lv_iload hx hb dX6_actPlace_77 (lv_at hl 0 rfl) ?_
              refine lv_iload_n hx hb dX6_actPlace_79 rfl (lv_at hl 5 rfl) ?_
              refine lv_iconst (v := 1) hx hb dX6_actPlace_80 (by decide) ?_
              refine lv_iadd hx hb dX6_actPlace_81 ?_
              refine zm_calli (As := [.int x4, .int (v3 + 1)]) (rest := []) X hH (wm_isTender l D cI cZ ad o X.2.2.2.2.2.2.2.2 S M x4 (v3 + 1) _ hF) (cwV 2 X.2.2.2.2.1 (lw_V q1904 q1906 qs36 q95 q1907) rfl rfl rfl (by decide +kernel) ⟨Nat.le_of_ble_eq_true rfl, Nat.le_of_ble_eq_true rfl⟩) rfl hl.1 rfl (Nat.le_of_ble_eq_true rfl) dX6_actPlace_82 (Nat.le_refl 0) (Nat.le_refl 0) (fun r10 S8 M9 H locs hF hH => ?_)
              obtain ⟨hF, e9, e8⟩ := hF; subst e9; subst e8
              refine lv_if_eq (tgt := 91) hx hb dX6_actPlace_85 (by decide) (fun cd => ?_) (fun cd => ?_)
              · have hF := hF.1 cd
                exact wm_actPlace_91 X S M v3 v4 x4 hF _ _ _ (lv_sub hl [2, 5, 6, 0] rfl) hH
              · have hF := hF.2 cd
                refine lv_bipush (v := (-7)) hx hb dX6_actPlace_88 (by decide) ?_
                exact zm_iret X hH rfl rfl hF dX6_actPlace_90
        · have hF := hF.2 cd
          refine lv_bipush (v := (-6)) hx hb dX6_actPlace_55 (by decide) ?_
          exact zm_iret X hH rfl rfl hF dX6_actPlace_57
      · have hF := hF.2 cd
        refine lv_iconst (v := (-1)) hx hb dX6_actPlace_36 (by decide) ?_
        exact zm_iret X hH rfl rfl hF dX6_actPlace_37
  · have hF := hF.2 cd
    refine lv_iload hx hb dX6_actPlace_14 (lv_at hl 0 rfl) ?_
    exact zm_iret X hH rfl rfl hF dX6_actPlace_16
set_option maxHeartbeats 4000000 in
set_option maxRecDepth 100000 in
theorem wm_isWide_19 {p : Program} {l : Launch} {e : Env} {s : State} {m : MethodId} {args : Array Value} {below : List Frame} {meth : Method} {c : Code} {D : va_G} {cI cZ : ClassId} {ad : Nat → Nat} {o : Nat} {Q : Int32 → Prop} {S0 : Nat → Int32} {M0 : Nat → Nat → Int32} (X : zm_Cx p s m args meth c cX6_isWide 3 (some .boolean) D cI cZ ad o) :
    ∀ (S : Nat → Int32) (M : Nat → Nat → Int32), fm_isWide_19 Q S M → ∀ (H : Heap) (locs : List Loc) (ls : Array Slot), S0 = S → M0 = M → lv_has ls 3 [(0, .ref o)] → zm_H D cI cZ ad o S M s H locs → W p l e (zm_R 0) s m args below meth c H locs 0 0 (MQ below (zm_QS (fun r S1 M1 => Q r ∧ S0 = S1 ∧ M0 = M1) D cI cZ ad o) args s 0 0 (zm_A ad o)) (F0 m 19 ls []) := by
  have hx := X.1
  have hb := X.2.1
  intro S M hF
  intro H locs ls eS eM hl hH
  unfold fm_isWide_19 at hF
  refine lv_iconst (v := 0) hx hb dX6_isWide_19 (by decide) ?_
  refine lv_goto (tgt := 62) hx hb dX6_isWide_20 (by decide) ?_
  exact zm_iret X hH rfl rfl ⟨hF, eS, eM⟩ dX6_isWide_62
set_option maxHeartbeats 4000000 in
set_option maxRecDepth 100000 in
/-- isWide: what the bytecode asks is what its run needs -/
theorem wm_isWide (l : Launch) (D : va_G) (cI cZ : ClassId) (ad : Nat → Nat) (o : Nat) (hAd : zm_Ad ad o) (S : Nat → Int32) (M : Nat → Nat → Int32) (v1 : Int32) (v2 : Int32) (Q : Int32 → Prop) (hF : fm_isWide S M v1 v2 Q) :
    zm_Mi l yX6_isWide (ws_ yX6_isWide cX6_isWide 3 (some .boolean)) 0 D cI cZ ad o [.int v1, .int v2] S M (fun r S1 M1 => Q r ∧ S = S1 ∧ M = M1) := by
  refine zm_ofi rfl hAd (Nat.le_of_ble_eq_true rfl) ?_
  intro p e s m args below meth c H locs ls X hH hl
  have hx := X.1
  have hb := X.2.1
  have hl : lv_has ls 3 [(0, .ref o), (1, .int v1), (2, .int v2)] := hl
  unfold fm_isWide at hF
  refine lv_iload_n hx hb dX6_isWide_0 rfl (lv_at hl 1 rfl) ?_
  refine lv_iconst (v := 3) hx hb dX6_isWide_1 (by decide) ?_
  refine lv_icmp_ne (tgt := 23) hx hb dX6_isWide_2 (by decide) (fun cd => ?_) (fun cd => ?_)
  · have hF := hF.1 cd
    refine lv_iload_n hx hb dX6_isWide_23 rfl (lv_at hl 1 rfl) ?_
    refine lv_iconst (v := 5) hx hb dX6_isWide_24 (by decide) ?_
    refine lv_icmp_ne (tgt := 41) hx hb dX6_isWide_25 (by decide) (fun cd => ?_) (fun cd => ?_)
    · have hF := hF.1 cd
      refine lv_iload_n hx hb dX6_isWide_41 rfl (lv_at hl 1 rfl) ?_
      refine lv_iconst (v := 1) hx hb dX6_isWide_42 (by decide) ?_
      refine lv_icmp_lt (tgt := 61) hx hb dX6_isWide_43 (by decide) (fun cd => ?_) (fun cd => ?_)
      · have hF := hF.1 cd
        refine lv_iconst (v := 0) hx hb dX6_isWide_61 (by decide) ?_
        exact zm_iret X hH rfl rfl ⟨hF, rfl, rfl⟩ dX6_isWide_62
      · have hF := hF.2 cd
        refine lv_iload_n hx hb dX6_isWide_46 rfl (lv_at hl 1 rfl) ?_
        refine lv_bipush (v := 6) hx hb dX6_isWide_47 (by decide) ?_
        refine lv_icmp_gt (tgt := 61) hx hb dX6_isWide_49 (by decide) (fun cd => ?_) (fun cd => ?_)
        · have hF := hF.1 cd
          refine lv_iconst (v := 0) hx hb dX6_isWide_61 (by decide) ?_
          exact zm_iret X hH rfl rfl ⟨hF, rfl, rfl⟩ dX6_isWide_62
        · have hF := hF.2 cd
          refine lv_iload_n hx hb dX6_isWide_52 rfl (lv_at hl 2 rfl) ?_
          refine lv_iconst (v := 1) hx hb dX6_isWide_53 (by decide) ?_
          refine lv_icmp_ne (tgt := 61) hx hb dX6_isWide_54 (by decide) (fun cd => ?_) (fun cd => ?_)
          · have hF := hF.1 cd
            refine lv_iconst (v := 0) hx hb dX6_isWide_61 (by decide) ?_
            exact zm_iret X hH rfl rfl ⟨hF, rfl, rfl⟩ dX6_isWide_62
          · have hF := hF.2 cd
            refine lv_iconst (v := 1) hx hb dX6_isWide_57 (by decide) ?_
            refine lv_goto (tgt := 62) hx hb dX6_isWide_58 (by decide) ?_
            exact zm_iret X hH rfl rfl ⟨hF, rfl, rfl⟩ dX6_isWide_62
    · have hF := hF.2 cd
      refine lv_iload_n hx hb dX6_isWide_28 rfl (lv_at hl 2 rfl) ?_
      refine lv_iconst (v := 3) hx hb dX6_isWide_29 (by decide) ?_
      refine lv_icmp_ne (tgt := 37) hx hb dX6_isWide_30 (by decide) (fun cd => ?_) (fun cd => ?_)
      · have hF := hF.1 cd
        refine lv_iconst (v := 0) hx hb dX6_isWide_37 (by decide) ?_
        refine lv_goto (tgt := 62) hx hb dX6_isWide_38 (by decide) ?_
        exact zm_iret X hH rfl rfl ⟨hF, rfl, rfl⟩ dX6_isWide_62
      · have hF := hF.2 cd
        refine lv_iconst (v := 1) hx hb dX6_isWide_33 (by decide) ?_
        refine lv_goto (tgt := 62) hx hb dX6_isWide_34 (by decide) ?_
        exact zm_iret X hH rfl rfl ⟨hF, rfl, rfl⟩ dX6_isWide_62
  · have hF := hF.2 cd
    refine lv_iload_n hx hb dX6_isWide_5 rfl (lv_at hl 2 rfl) ?_
    refine lv_iconst (v := 2) hx hb dX6_isWide_6 (by decide) ?_
    refine lv_icmp_lt (tgt := 19) hx hb dX6_isWide_7 (by decide) (fun cd => ?_) (fun cd => ?_)
    · have hF := hF.1 cd
      exact wm_isWide_19 X S M hF _ _ _ rfl rfl (lv_sub hl [0] rfl) hH
    · have hF := hF.2 cd
      refine lv_iload_n hx hb dX6_isWide_10 rfl (lv_at hl 2 rfl) ?_
      refine lv_iconst (v := 4) hx hb dX6_isWide_11 (by decide) ?_
      refine lv_icmp_gt (tgt := 19) hx hb dX6_isWide_12 (by decide) (fun cd => ?_) (fun cd => ?_)
      · have hF := hF.1 cd
        exact wm_isWide_19 X S M hF _ _ _ rfl rfl (lv_sub hl [0] rfl) hH
      · have hF := hF.2 cd
        refine lv_iconst (v := 1) hx hb dX6_isWide_15 (by decide) ?_
        refine lv_goto (tgt := 62) hx hb dX6_isWide_16 (by decide) ?_
        exact zm_iret X hH rfl rfl ⟨hF, rfl, rfl⟩ dX6_isWide_62
set_option maxHeartbeats 4000000 in
set_option maxRecDepth 100000 in
theorem wm_suits_40 {p : Program} {l : Launch} {e : Env} {s : State} {m : MethodId} {args : Array Value} {below : List Frame} {meth : Method} {c : Code} {D : va_G} {cI cZ : ClassId} {ad : Nat → Nat} {o : Nat} {Q : Int32 → Prop} {S0 : Nat → Int32} {M0 : Nat → Nat → Int32} (X : zm_Cx p s m args meth c cX6_suits 3 (some .boolean) D cI cZ ad o) :
    ∀ (S : Nat → Int32) (M : Nat → Nat → Int32), fm_suits_40 Q S M → ∀ (H : Heap) (locs : List Loc) (ls : Array Slot), S0 = S → M0 = M → lv_has ls 3 [(0, .ref o)] → zm_H D cI cZ ad o S M s H locs → W p l e (zm_R 0) s m args below meth c H locs 0 0 (MQ below (zm_QS (fun r S1 M1 => Q r ∧ S0 = S1 ∧ M0 = M1) D cI cZ ad o) args s 0 0 (zm_A ad o)) (F0 m 40 ls []) := by
  have hx := X.1
  have hb := X.2.1
  intro S M hF
  intro H locs ls eS eM hl hH
  unfold fm_suits_40 at hF
  refine lv_iconst (v := 1) hx hb dX6_suits_40 (by decide) ?_
  refine lv_goto (tgt := 45) hx hb dX6_suits_41 (by decide) ?_
  exact zm_iret X hH rfl rfl ⟨hF, eS, eM⟩ dX6_suits_45
set_option maxHeartbeats 4000000 in
set_option maxRecDepth 100000 in
theorem wm_suits_22 {p : Program} {l : Launch} {e : Env} {s : State} {m : MethodId} {args : Array Value} {below : List Frame} {meth : Method} {c : Code} {D : va_G} {cI cZ : ClassId} {ad : Nat → Nat} {o : Nat} {Q : Int32 → Prop} {S0 : Nat → Int32} {M0 : Nat → Nat → Int32} (X : zm_Cx p s m args meth c cX6_suits 3 (some .boolean) D cI cZ ad o) :
    ∀ (S : Nat → Int32) (M : Nat → Nat → Int32), fm_suits_22 Q S M → ∀ (H : Heap) (locs : List Loc) (ls : Array Slot), S0 = S → M0 = M → lv_has ls 3 [(0, .ref o)] → zm_H D cI cZ ad o S M s H locs → W p l e (zm_R 0) s m args below meth c H locs 0 0 (MQ below (zm_QS (fun r S1 M1 => Q r ∧ S0 = S1 ∧ M0 = M1) D cI cZ ad o) args s 0 0 (zm_A ad o)) (F0 m 22 ls []) := by
  have hx := X.1
  have hb := X.2.1
  intro S M hF
  intro H locs ls eS eM hl hH
  unfold fm_suits_22 at hF
  refine lv_iconst (v := 1) hx hb dX6_suits_22 (by decide) ?_
  refine lv_goto (tgt := 45) hx hb dX6_suits_23 (by decide) ?_
  exact zm_iret X hH rfl rfl ⟨hF, eS, eM⟩ dX6_suits_45
set_option maxHeartbeats 4000000 in
set_option maxRecDepth 100000 in
/-- suits: what the bytecode asks is what its run needs -/
theorem wm_suits (l : Launch) (D : va_G) (cI cZ : ClassId) (ad : Nat → Nat) (o : Nat) (hAd : zm_Ad ad o) (S : Nat → Int32) (M : Nat → Nat → Int32) (v1 : Int32) (v2 : Int32) (Q : Int32 → Prop) (hF : fm_suits S M v1 v2 Q) :
    zm_Mi l yX6_suits (ws_ yX6_suits cX6_suits 3 (some .boolean)) 0 D cI cZ ad o [.int v1, .int v2] S M (fun r S1 M1 => Q r ∧ S = S1 ∧ M = M1) := by
  refine zm_ofi rfl hAd (Nat.le_of_ble_eq_true rfl) ?_
  intro p e s m args below meth c H locs ls X hH hl
  have hx := X.1
  have hb := X.2.1
  have hl : lv_has ls 3 [(0, .ref o), (1, .int v1), (2, .int v2)] := hl
  unfold fm_suits at hF
  refine lv_iload_n hx hb dX6_suits_0 rfl (lv_at hl 1 rfl) ?_
  refine lv_iconst (v := 2) hx hb dX6_suits_1 (by decide) ?_
  refine lv_icmp_ge (tgt := 7) hx hb dX6_suits_2 (by decide) (fun cd => ?_) (fun cd => ?_)
  · have hF := hF.1 cd
    refine lv_iload_n hx hb dX6_suits_7 rfl (lv_at hl 1 rfl) ?_
    refine lv_iconst (v := 2) hx hb dX6_suits_8 (by decide) ?_
    refine lv_icmp_ne (tgt := 30) hx hb dX6_suits_9 (by decide) (fun cd => ?_) (fun cd => ?_)
    · have hF := hF.1 cd
      refine lv_iload_n hx hb dX6_suits_30 rfl (lv_at hl 2 rfl) ?_
      refine lv_iconst (v := 2) hx hb dX6_suits_31 (by decide) ?_
      refine lv_icmp_eq (tgt := 40) hx hb dX6_suits_32 (by decide) (fun cd => ?_) (fun cd => ?_)
      · have hF := hF.1 cd
        exact wm_suits_40 X S M hF _ _ _ rfl rfl (lv_sub hl [0] rfl) hH
      · have hF := hF.2 cd
        refine lv_iload_n hx hb dX6_suits_35 rfl (lv_at hl 2 rfl) ?_
        refine lv_iconst (v := 3) hx hb dX6_suits_36 (by decide) ?_
        refine lv_icmp_ne (tgt := 44) hx hb dX6_suits_37 (by decide) (fun cd => ?_) (fun cd => ?_)
        · have hF := hF.1 cd
          refine lv_iconst (v := 0) hx hb dX6_suits_44 (by decide) ?_
          exact zm_iret X hH rfl rfl ⟨hF, rfl, rfl⟩ dX6_suits_45
        · have hF := hF.2 cd
          exact wm_suits_40 X S M hF _ _ _ rfl rfl (lv_sub hl [0] rfl) hH
    · have hF := hF.2 cd
      refine lv_iload_n hx hb dX6_suits_12 rfl (lv_at hl 2 rfl) ?_
      refine lv_iconst (v := 4) hx hb dX6_suits_13 (by decide) ?_
      refine lv_icmp_eq (tgt := 22) hx hb dX6_suits_14 (by decide) (fun cd => ?_) (fun cd => ?_)
      · have hF := hF.1 cd
        exact wm_suits_22 X S M hF _ _ _ rfl rfl (lv_sub hl [0] rfl) hH
      · have hF := hF.2 cd
        refine lv_iload_n hx hb dX6_suits_17 rfl (lv_at hl 2 rfl) ?_
        refine lv_iconst (v := 5) hx hb dX6_suits_18 (by decide) ?_
        refine lv_icmp_ne (tgt := 26) hx hb dX6_suits_19 (by decide) (fun cd => ?_) (fun cd => ?_)
        · have hF := hF.1 cd
          refine lv_iconst (v := 0) hx hb dX6_suits_26 (by decide) ?_
          refine lv_goto (tgt := 45) hx hb dX6_suits_27 (by decide) ?_
          exact zm_iret X hH rfl rfl ⟨hF, rfl, rfl⟩ dX6_suits_45
        · have hF := hF.2 cd
          exact wm_suits_22 X S M hF _ _ _ rfl rfl (lv_sub hl [0] rfl) hH
  · have hF := hF.2 cd
    refine lv_iconst (v := 1) hx hb dX6_suits_5 (by decide) ?_
    exact zm_iret X hH rfl rfl ⟨hF, rfl, rfl⟩ dX6_suits_6
set_option maxHeartbeats 4000000 in
set_option maxRecDepth 100000 in
theorem wm_layFault_122 {p : Program} {l : Launch} {e : Env} {s : State} {m : MethodId} {args : Array Value} {below : List Frame} {meth : Method} {c : Code} {D : va_G} {cI cZ : ClassId} {ad : Nat → Nat} {o : Nat} {Q : Int32 → Prop} {S0 : Nat → Int32} {M0 : Nat → Nat → Int32} (X : zm_Cx p s m args meth c cX6_layFault 9 (some .int) D cI cZ ad o) :
    ∀ (S : Nat → Int32) (M : Nat → Nat → Int32) (v4 : Int32) (v7 : Int32), fm_layFault_122 Q S M v4 v7 → ∀ (H : Heap) (locs : List Loc) (ls : Array Slot), S0 = S → M0 = M → lv_has ls 9 [(0, .ref o), (4, .int v4), (7, .int v7)] → zm_H D cI cZ ad o S M s H locs → W p l e (zm_R 1) s m args below meth c H locs 0 0 (MQ below (zm_QS (fun r S1 M1 => Q r ∧ S0 = S1 ∧ M0 = M1) D cI cZ ad o) args s 0 0 (zm_A ad o)) (F0 m 122 ls []) := by
  have hx := X.1
  have hb := X.2.1
  intro S M v4 v7 hF
  intro H locs ls eS eM hl hH
  unfold fm_layFault_122 at hF
  refine lv_aload_n hx hb dX6_layFault_122 rfl (lv_at hl 0 rfl) ?_
  refine lv_aload_n hx hb dX6_layFault_123 rfl (lv_at hl 0 rfl) ?_
  refine zm_getf X hH 5 (by decide) rfl q1718 dX6_layFault_124 ?_
  refine lv_iload hx hb dX6_layFault_127 (lv_at hl 2 rfl) ?_
  obtain ⟨hI, hF⟩ := hF
  refine zm_iald X hH 5 (by decide) rfl (n := 96) rfl hI dX6_layFault_129 ?_
  refine lv_iload hx hb dX6_layFault_130 (lv_at hl 1 rfl) ?_
  refine zm_calli (As := [.int (M 5 v7.toNatClampNeg), .int v4]) (rest := []) X hH (wm_suits l D cI cZ ad o X.2.2.2.2.2.2.2.2 S M (M 5 v7.toNatClampNeg) v4 _ hF) (cwV 2 X.2.2.2.2.1 (lw_V q1928 q1930 qs42 q95 q1931) rfl rfl rfl (by decide +kernel) ⟨Nat.le_of_ble_eq_true rfl, Nat.le_of_ble_eq_true rfl⟩) rfl hl.1 rfl (Nat.le_of_ble_eq_true rfl) dX6_layFault_132 (Nat.le_refl 0) (Nat.le_refl 0) (fun r3 S1 M2 H locs hF hH => ?_)
  obtain ⟨hF, e9, e8⟩ := hF; subst e9; subst e8
  refine lv_if_eq (tgt := 142) hx hb dX6_layFault_135 (by decide) (fun cd => ?_) (fun cd => ?_)
  · have hF := hF.1 cd
    refine lv_bipush (v := (-8)) hx hb dX6_layFault_142 (by decide) ?_
    exact zm_iret X hH rfl rfl ⟨hF, eS, eM⟩ dX6_layFault_144
  · have hF := hF.2 cd
    refine lv_iconst (v := 0) hx hb dX6_layFault_138 (by decide) ?_
    refine lv_goto (tgt := 144) hx hb dX6_layFault_139 (by decide) ?_
    exact zm_iret X hH rfl rfl ⟨hF, eS, eM⟩ dX6_layFault_144
set_option maxHeartbeats 4000000 in
set_option maxRecDepth 100000 in
theorem wm_layFault_27 {p : Program} {l : Launch} {e : Env} {s : State} {m : MethodId} {args : Array Value} {below : List Frame} {meth : Method} {c : Code} {D : va_G} {cI cZ : ClassId} {ad : Nat → Nat} {o : Nat} {Q : Int32 → Prop} {S0 : Nat → Int32} {M0 : Nat → Nat → Int32} (X : zm_Cx p s m args meth c cX6_layFault 9 (some .int) D cI cZ ad o) :
    ∀ (n : Nat) (S : Nat → Int32) (M : Nat → Nat → Int32) (v3 : Int32) (v4 : Int32) (v5 : Int32) (v7 : Int32) (v8 : Int32), fm_layFault_27 Q n S M v3 v4 v5 v7 v8 → ∀ (H : Heap) (locs : List Loc) (ls : Array Slot), S0 = S → M0 = M → lv_has ls 9 [(0, .ref o), (3, .int v3), (4, .int v4), (5, .int v5), (7, .int v7), (8, .int v8)] → zm_H D cI cZ ad o S M s H locs → W p l e (zm_R 1) s m args below meth c H locs 0 0 (MQ below (zm_QS (fun r S1 M1 => Q r ∧ S0 = S1 ∧ M0 = M1) D cI cZ ad o) args s 0 0 (zm_A ad o)) (F0 m 27 ls []) := by
  have hx := X.1
  have hb := X.2.1
  intro n
  induction n with
  | zero =>
    intro S M v3 v4 v5 v7 v8 hF
    exact False.elim hF
  | succ n ih =>
    intro S M v3 v4 v5 v7 v8 hF
    intro H locs ls eS eM hl hH
    unfold fm_layFault_27 at hF
    refine lv_iload hx hb dX6_layFault_27 (lv_at hl 5 rfl) ?_
    refine lv_iload hx hb dX6_layFault_29 (lv_at hl 3 rfl) ?_
    refine lv_icmp_ge (tgt := 85) hx hb dX6_layFault_31 (by decide) (fun cd => ?_) (fun cd => ?_)
    · have hF := hF.1 cd
      refine lv_aload_n hx hb dX6_layFault_85 rfl (lv_at hl 0 rfl) ?_
      refine lv_iload hx hb dX6_layFault_86 (lv_at hl 2 rfl) ?_
      refine zm_calli (As := [.int v4]) (rest := []) X hH (wm_fearsTrees l D cI cZ ad o X.2.2.2.2.2.2.2.2 S M v4 _ hF) (cwV 1 X.2.2.2.2.1 (lw_V q1908 q1910 qs37 q95 q1911) rfl rfl rfl (by decide +kernel) ⟨Nat.le_of_ble_eq_true rfl, Nat.le_of_ble_eq_true rfl⟩) rfl hl.1 rfl (Nat.le_of_ble_eq_true rfl) dX6_layFault_88 (Nat.le_refl 0) (Nat.le_refl 0) (fun r3 S1 M2 H locs hF hH => ?_)
      obtain ⟨hF, e9, e8⟩ := hF; subst e9; subst e8
      refine lv_if_eq (tgt := 122) hx hb dX6_layFault_91 (by decide) (fun cd => ?_) (fun cd => ?_)
      · have hF := hF.1 cd
        exact wm_layFault_122 X S M v4 v7 hF _ _ _ eS eM (lv_sub hl [0, 2, 4] rfl) hH
      · have hF := hF.2 cd
        refine lv_aload_n hx hb dX6_layFault_94 rfl (lv_at hl 0 rfl) ?_
        refine lv_iload hx hb dX6_layFault_95 (lv_at hl 4 rfl) ?_
        refine lv_iload_n hx hb dX6_layFault_97 rfl (lv_at hl 1 rfl) ?_
        refine lv_iconst (v := 1) hx hb dX6_layFault_98 (by decide) ?_
        refine lv_isub hx hb dX6_layFault_99 ?_
        refine zm_calli (As := [.int v7, .int (v3 - 1)]) (rest := []) X hH (wm_isTree l D cI cZ ad o X.2.2.2.2.2.2.2.2 S M v7 (v3 - 1) _ hF) (cwV 2 X.2.2.2.2.1 (lw_V q1924 q1926 qs41 q95 q1927) rfl rfl rfl (by decide +kernel) ⟨Nat.le_of_ble_eq_true rfl, Nat.le_of_ble_eq_true rfl⟩) rfl hl.1 rfl (Nat.le_of_ble_eq_true rfl) dX6_layFault_100 (Nat.le_refl 0) (Nat.le_refl 0) (fun r6 S4 M5 H locs hF hH => ?_)
        obtain ⟨hF, e9, e8⟩ := hF; subst e9; subst e8
        refine lv_if_ne (tgt := 119) hx hb dX6_layFault_103 (by decide) (fun cd => ?_) (fun cd => ?_)
        · have hF := hF.1 cd
          refine lv_bipush (v := (-7)) hx hb dX6_layFault_119 (by decide) ?_
          exact zm_iret X hH rfl rfl ⟨hF, eS, eM⟩ dX6_layFault_121
        · have hF := hF.2 cd
          refine lv_aload_n hx hb dX6_layFault_106 rfl (lv_at hl 0 rfl) ?_
          refine lv_iload hx hb dX6_layFault_107 (lv_at hl 4 rfl) ?_
          refine lv_iload_n hx hb dX6_layFault_109 rfl (lv_at hl 1 rfl) ?_
          refine lv_iload hx hb dX6_layFault_110 (lv_at hl 3 rfl) ?_
          refine lv_iadd hx hb dX6_layFault_112 ?_
          refine zm_calli (As := [.int v7, .int (v3 + v5)]) (rest := []) X hH (wm_isTree l D cI cZ ad o X.2.2.2.2.2.2.2.2 S M v7 (v3 + v5) _ hF) (cwV 2 X.2.2.2.2.1 (lw_V q1924 q1926 qs41 q95 q1927) rfl rfl rfl (by decide +kernel) ⟨Nat.le_of_ble_eq_true rfl, Nat.le_of_ble_eq_true rfl⟩) rfl hl.1 rfl (Nat.le_of_ble_eq_true rfl) dX6_layFault_113 (Nat.le_refl 0) (Nat.le_refl 0) (fun r9 S7 M8 H locs hF hH => ?_)
          obtain ⟨hF, e9, e8⟩ := hF; subst e9; subst e8
          refine lv_if_eq (tgt := 122) hx hb dX6_layFault_116 (by decide) (fun cd => ?_) (fun cd => ?_)
          · have hF := hF.1 cd
            exact wm_layFault_122 X S M v4 v7 hF _ _ _ eS eM (lv_sub hl [0, 2, 4] rfl) hH
          · have hF := hF.2 cd
            refine lv_bipush (v := (-7)) hx hb dX6_layFault_119 (by decide) ?_
            exact zm_iret X hH rfl rfl ⟨hF, eS, eM⟩ dX6_layFault_121
    · have hF := hF.2 cd
      refine lv_iload_n hx hb dX6_layFault_34 rfl (lv_at hl 1 rfl) ?_
      refine lv_iload hx hb dX6_layFault_35 (lv_at hl 5 rfl) ?_
      refine lv_iadd hx hb dX6_layFault_37 ?_
      refine lv_if_lt (tgt := 55) hx hb dX6_layFault_38 (by decide) (fun cd => ?_) (fun cd => ?_)
      · have hF := hF.1 cd
        refine lv_bipush (v := (-4)) hx hb dX6_layFault_55 (by decide) ?_
        exact zm_iret X hH rfl rfl ⟨hF, eS, eM⟩ dX6_layFault_57
      · have hF := hF.2 cd
        refine lv_iload_n hx hb dX6_layFault_41 rfl (lv_at hl 1 rfl) ?_
        refine lv_iload hx hb dX6_layFault_42 (lv_at hl 5 rfl) ?_
        refine lv_iadd hx hb dX6_layFault_44 ?_
        refine lv_aload_n hx hb dX6_layFault_45 rfl (lv_at hl 0 rfl) ?_
        refine zm_getf X hH 6 (by decide) rfl q1719 dX6_layFault_46 ?_
        refine lv_iload hx hb dX6_layFault_49 (lv_at hl 4 rfl) ?_
        obtain ⟨hI, hF⟩ := hF
        refine zm_iald X hH 6 (by decide) rfl (n := 96) rfl hI dX6_layFault_51 ?_
        refine lv_icmp_lt (tgt := 58) hx hb dX6_layFault_52 (by decide) (fun cd => ?_) (fun cd => ?_)
        · have hF := hF.1 cd
          refine lv_aload_n hx hb dX6_layFault_58 rfl (lv_at hl 0 rfl) ?_
          refine zm_getf X hH 8 (by decide) rfl q1721 dX6_layFault_59 ?_
          refine lv_bipush (v := 30) hx hb dX6_layFault_62 (by decide) ?_
          refine lv_iload hx hb dX6_layFault_64 (lv_at hl 4 rfl) ?_
          refine lv_imul hx hb dX6_layFault_66 ?_
          refine lv_iload_n hx hb dX6_layFault_67 rfl (lv_at hl 1 rfl) ?_
          refine lv_iadd hx hb dX6_layFault_68 ?_
          refine lv_iload hx hb dX6_layFault_69 (lv_at hl 5 rfl) ?_
          refine lv_iadd hx hb dX6_layFault_71 ?_
          obtain ⟨hI, hF⟩ := hF
          refine zm_iald X hH 8 (by decide) rfl (n := 2880) rfl hI dX6_layFault_72 ?_
          refine lv_if_eq (tgt := 79) hx hb dX6_layFault_73 (by decide) (fun cd => ?_) (fun cd => ?_)
          · have hF := hF.1 cd
            obtain ⟨x10, ex10⟩ : ∃ z : Int32, z = v8 + 1 := ⟨_, rfl⟩
            have hF := hF x10 ex10
            refine lv_iinc (v := x10) (lv' := [(8, .int x10), (0, .ref o), (3, .int v3), (4, .int v4), (5, .int v5), (7, .int v7)]) hx hb dX6_layFault_79 hl (k := 5) rfl (by rw [ex10]; rfl) (by decide) rfl (fun ls hl => ?_)
            refine lv_goto (tgt := 27) hx hb dX6_layFault_82 (by decide) ?_
            exact ih S M v3 v4 v5 v7 x10 hF _ _ _ eS eM (lv_sub hl [1, 2, 3, 4, 5, 0] rfl) hH
          · have hF := hF.2 cd
            refine lv_bipush (v := (-6)) hx hb dX6_layFault_76 (by decide) ?_
            exact zm_iret X hH rfl rfl ⟨hF, eS, eM⟩ dX6_layFault_78
        · have hF := hF.2 cd
          refine lv_bipush (v := (-4)) hx hb dX6_layFault_55 (by decide) ?_
          exact zm_iret X hH rfl rfl ⟨hF, eS, eM⟩ dX6_layFault_57
set_option maxHeartbeats 4000000 in
set_option maxRecDepth 100000 in
/-- layFault: what the bytecode asks is what its run needs -/
theorem wm_layFault (l : Launch) (D : va_G) (cI cZ : ClassId) (ad : Nat → Nat) (o : Nat) (hAd : zm_Ad ad o) (S : Nat → Int32) (M : Nat → Nat → Int32) (v1 : Int32) (v2 : Int32) (v3 : Int32) (v4 : Int32) (v5 : Int32) (Q : Int32 → Prop) (hF : fm_layFault S M v1 v2 v3 v4 v5 Q) :
    zm_Mi l yX6_layFault (ws_ yX6_layFault cX6_layFault 9 (some .int)) 1 D cI cZ ad o [.int v1, .int v2, .int v3, .int v4, .int v5] S M (fun r S1 M1 => Q r ∧ S = S1 ∧ M = M1) := by
  refine zm_ofi rfl hAd (Nat.le_of_ble_eq_true rfl) ?_
  intro p e s m args below meth c H locs ls X hH hl
  have hx := X.1
  have hb := X.2.1
  have hl : lv_has ls 9 [(0, .ref o), (1, .int v1), (2, .int v2), (3, .int v3), (4, .int v4), (5, .int v5)] := hl
  unfold fm_layFault at hF
  refine lv_aload_n hx hb dX6_layFault_0 rfl (lv_at hl 0 rfl) ?_
  refine lv_iload_n hx hb dX6_layFault_1 rfl (lv_at hl 1 rfl) ?_
  refine lv_iload_n hx hb dX6_layFault_2 rfl (lv_at hl 2 rfl) ?_
  refine zm_calli (As := [.int v1, .int v2]) (rest := []) X hH (wm_rowFault l D cI cZ ad o X.2.2.2.2.2.2.2.2 S M v1 v2 _ hF) (cwV 2 X.2.2.2.2.1 (lw_V q1892 q1894 qs33 q95 q1895) rfl rfl rfl (by decide +kernel) ⟨Nat.le_of_ble_eq_true rfl, Nat.le_of_ble_eq_true rfl⟩) rfl hl.1 rfl (Nat.le_of_ble_eq_true rfl) dX6_layFault_3 (Nat.le_refl 0) (Nat.le_refl 0) (fun r3 S1 M2 H locs hF hH => ?_)
  obtain ⟨hF, e9, e8⟩ := hF; subst e9; subst e8
  refine lv_istore (lv' := [(6, .int r3), (0, .ref o), (1, .int v1), (2, .int v2), (3, .int v3), (4, .int v4), (5, .int v5)]) hx hb dX6_layFault_6 hl (by decide) rfl (fun ls hl => ?_)
  refine lv_iload hx hb dX6_layFault_8 (lv_at hl 0 rfl) ?_
  refine lv_if_eq (tgt := 16) hx hb dX6_layFault_10 (by decide) (fun cd => ?_) (fun cd => ?_)
  · have hF := hF.1 cd
    refine lv_bipush (v := 12) hx hb dX6_layFault_16 (by decide) ?_
    refine lv_iload_n hx hb dX6_layFault_18 rfl (lv_at hl 2 rfl) ?_
    refine lv_imul hx hb dX6_layFault_19 ?_
    refine lv_iload_n hx hb dX6_layFault_20 rfl (lv_at hl 3 rfl) ?_
    refine lv_iadd hx hb dX6_layFault_21 ?_
    refine lv_topi (fun x4 ex4 => ?_)
    have hF := hF x4 ex4
    refine lv_istore (lv' := [(7, .int x4), (6, .int r3), (0, .ref o), (1, .int v1), (2, .int v2), (3, .int v3), (4, .int v4), (5, .int v5)]) hx hb dX6_layFault_22 hl (by decide) rfl (fun ls hl => ?_)
    refine lv_iconst (v := 0) hx hb dX6_layFault_24 (by decide) ?_
    refine lv_istore (lv' := [(8, .int 0), (7, .int x4), (6, .int r3), (0, .ref o), (1, .int v1), (2, .int v2), (3, .int v3), (4, .int v4), (5, .int v5)]) hx hb dX6_layFault_25 hl (by decide) rfl (fun ls hl => ?_)
    obtain ⟨n9, hF⟩ := hF
    exact wm_layFault_27 X n9 S M v3 v4 v5 x4 0 hF _ _ _ rfl rfl (lv_sub hl [3, 6, 7, 8, 1, 0] rfl) hH
  · have hF := hF.2 cd
    refine lv_iload hx hb dX6_layFault_13 (lv_at hl 0 rfl) ?_
    exact zm_iret X hH rfl rfl ⟨hF, rfl, rfl⟩ dX6_layFault_15
set_option maxHeartbeats 4000000 in
set_option maxRecDepth 100000 in
theorem wm_actGrave_249 {p : Program} {l : Launch} {e : Env} {s : State} {m : MethodId} {args : Array Value} {below : List Frame} {meth : Method} {c : Code} {D : va_G} {cI cZ : ClassId} {ad : Nat → Nat} {o : Nat} {Q : Int32 → (Nat → Int32) → (Nat → Nat → Int32) → Prop} (X : zm_Cx p s m args meth c cX6_actGrave 9 (some .int) D cI cZ ad o) :
    ∀ (n : Nat) (S : Nat → Int32) (M : Nat → Nat → Int32) (v3 : Int32) (v5 : Int32) (v7 : Int32) (v8 : Int32), fm_actGrave_249 Q n S M v3 v5 v7 v8 → ∀ (H : Heap) (locs : List Loc) (ls : Array Slot), lv_has ls 9 [(0, .ref o), (3, .int v3), (5, .int v5), (7, .int v7), (8, .int v8)] → zm_H D cI cZ ad o S M s H locs → W p l e (zm_R 2) s m args below meth c H locs 0 0 (MQ below (zm_QS Q D cI cZ ad o) args s 0 0 (zm_A ad o)) (F0 m 249 ls []) := by
  have hx := X.1
  have hb := X.2.1
  intro n
  induction n with
  | zero =>
    intro S M v3 v5 v7 v8 hF
    exact False.elim hF
  | succ n ih =>
    intro S M v3 v5 v7 v8 hF
    intro H locs ls hl hH
    unfold fm_actGrave_249 at hF
    refine lv_iload hx hb dX6_actGrave_249 (lv_at hl 4 rfl) ?_
    refine lv_iload_n hx hb dX6_actGrave_251 rfl (lv_at hl 1 rfl) ?_
    refine lv_iload hx hb dX6_actGrave_252 (lv_at hl 2 rfl) ?_
    refine lv_iadd hx hb dX6_actGrave_254 ?_
    refine lv_icmp_ge (tgt := 287) hx hb dX6_actGrave_255 (by decide) (fun cd => ?_) (fun cd => ?_)
    · have hF := hF.1 cd
      refine lv_iload hx hb dX6_actGrave_287 (lv_at hl 3 rfl) ?_
      exact zm_iret X hH rfl rfl hF dX6_actGrave_289
    · have hF := hF.2 cd
      refine lv_aload_n hx hb dX6_actGrave_258 rfl (lv_at hl 0 rfl) ?_
      refine zm_getf X hH 8 (by decide) rfl q1721 dX6_actGrave_259 ?_
      refine lv_bipush (v := 30) hx hb dX6_actGrave_262 (by decide) ?_
      refine lv_aload_n hx hb dX6_actGrave_264 rfl (lv_at hl 0 rfl) ?_
      refine zm_getf X hH 16 (by decide) rfl q1729 dX6_actGrave_265 ?_
      refine lv_iload hx hb dX6_actGrave_268 (lv_at hl 3 rfl) ?_
      obtain ⟨hI, hF⟩ := hF
      refine zm_iald X hH 16 (by decide) rfl (n := 150) rfl hI dX6_actGrave_270 ?_
      refine lv_imul hx hb dX6_actGrave_271 ?_
      refine lv_iload hx hb dX6_actGrave_272 (lv_at hl 4 rfl) ?_
      refine lv_iadd hx hb dX6_actGrave_274 ?_
      refine lv_bipush (v := 10) hx hb dX6_actGrave_275 (by decide) ?_
      refine lv_iload hx hb dX6_actGrave_277 (lv_at hl 3 rfl) ?_
      refine lv_iadd hx hb dX6_actGrave_279 ?_
      obtain ⟨hI, hF⟩ := hF
      refine zm_iast X hH 8 (by decide) rfl (n := 2880) rfl hI dX6_actGrave_280 (fun M1 H locs eM1 hH => ?_)
      have hF := hF M1 eM1
      obtain ⟨x2, ex2⟩ : ∃ z : Int32, z = v8 + 1 := ⟨_, rfl⟩
      have hF := hF x2 ex2
      refine lv_iinc (v := x2) (lv' := [(8, .int x2), (0, .ref o), (3, .int v3), (5, .int v5), (7, .int v7)]) hx hb dX6_actGrave_281 hl (k := 4) rfl (by rw [ex2]; rfl) (by decide) rfl (fun ls hl => ?_)
      refine lv_goto (tgt := 249) hx hb dX6_actGrave_284 (by decide) ?_
      exact ih S M1 v3 v5 v7 x2 hF _ _ _ (lv_sub hl [1, 2, 3, 4, 0] rfl) hH
set_option maxHeartbeats 4000000 in
set_option maxRecDepth 100000 in
theorem wm_actGrave_219 {p : Program} {l : Launch} {e : Env} {s : State} {m : MethodId} {args : Array Value} {below : List Frame} {meth : Method} {c : Code} {D : va_G} {cI cZ : ClassId} {ad : Nat → Nat} {o : Nat} {Q : Int32 → (Nat → Int32) → (Nat → Nat → Int32) → Prop} (X : zm_Cx p s m args meth c cX6_actGrave 9 (some .int) D cI cZ ad o) :
    ∀ (n : Nat) (S : Nat → Int32) (M : Nat → Nat → Int32) (v3 : Int32) (v5 : Int32) (v7 : Int32) (v8 : Int32), fm_actGrave_219 Q n S M v3 v5 v7 v8 → ∀ (H : Heap) (locs : List Loc) (ls : Array Slot), lv_has ls 9 [(0, .ref o), (3, .int v3), (5, .int v5), (7, .int v7), (8, .int v8)] → zm_H D cI cZ ad o S M s H locs → W p l e (zm_R 2) s m args below meth c H locs 0 0 (MQ below (zm_QS Q D cI cZ ad o) args s 0 0 (zm_A ad o)) (F0 m 219 ls []) := by
  have hx := X.1
  have hb := X.2.1
  intro n
  induction n with
  | zero =>
    intro S M v3 v5 v7 v8 hF
    exact False.elim hF
  | succ n ih =>
    intro S M v3 v5 v7 v8 hF
    intro H locs ls hl hH
    unfold fm_actGrave_219 at hF
    refine lv_iload hx hb dX6_actGrave_219 (lv_at hl 4 rfl) ?_
    refine lv_bipush (v := 8) hx hb dX6_actGrave_221 (by decide) ?_
    refine lv_icmp_ge (tgt := 246) hx hb dX6_actGrave_223 (by decide) (fun cd => ?_) (fun cd => ?_)
    · have hF := hF.1 cd
      refine lv_iload_n hx hb dX6_actGrave_246 rfl (lv_at hl 1 rfl) ?_
      refine lv_istore (lv' := [(8, .int v3), (0, .ref o), (3, .int v3), (5, .int v5), (7, .int v7)]) hx hb dX6_actGrave_247 hl (by decide) rfl (fun ls hl => ?_)
      obtain ⟨n9, hF⟩ := hF
      exact wm_actGrave_249 X n9 S M v3 v5 v7 v3 hF _ _ _ (lv_sub hl [1, 2, 3, 4, 0] rfl) hH
    · have hF := hF.2 cd
      refine lv_aload_n hx hb dX6_actGrave_226 rfl (lv_at hl 0 rfl) ?_
      refine zm_getf X hH 24 (by decide) rfl q1737 dX6_actGrave_227 ?_
      refine lv_bipush (v := 8) hx hb dX6_actGrave_230 (by decide) ?_
      refine lv_iload hx hb dX6_actGrave_232 (lv_at hl 3 rfl) ?_
      refine lv_imul hx hb dX6_actGrave_234 ?_
      refine lv_iload hx hb dX6_actGrave_235 (lv_at hl 4 rfl) ?_
      refine lv_iadd hx hb dX6_actGrave_237 ?_
      refine lv_iconst (v := (-1)) hx hb dX6_actGrave_238 (by decide) ?_
      obtain ⟨hI, hF⟩ := hF
      refine zm_iast X hH 24 (by decide) rfl (n := 1200) rfl hI dX6_actGrave_239 (fun M1 H locs eM1 hH => ?_)
      have hF := hF M1 eM1
      obtain ⟨x2, ex2⟩ : ∃ z : Int32, z = v8 + 1 := ⟨_, rfl⟩
      have hF := hF x2 ex2
      refine lv_iinc (v := x2) (lv' := [(8, .int x2), (0, .ref o), (3, .int v3), (5, .int v5), (7, .int v7)]) hx hb dX6_actGrave_240 hl (k := 4) rfl (by rw [ex2]; rfl) (by decide) rfl (fun ls hl => ?_)
      refine lv_goto (tgt := 219) hx hb dX6_actGrave_243 (by decide) ?_
      exact ih S M1 v3 v5 v7 x2 hF _ _ _ (lv_sub hl [1, 2, 3, 4, 0] rfl) hH
set_option maxHeartbeats 4000000 in
set_option maxRecDepth 100000 in
theorem wm_actGrave_187 {p : Program} {l : Launch} {e : Env} {s : State} {m : MethodId} {args : Array Value} {below : List Frame} {meth : Method} {c : Code} {D : va_G} {cI cZ : ClassId} {ad : Nat → Nat} {o : Nat} {Q : Int32 → (Nat → Int32) → (Nat → Nat → Int32) → Prop} (X : zm_Cx p s m args meth c cX6_actGrave 9 (some .int) D cI cZ ad o) :
    ∀ (n : Nat) (S : Nat → Int32) (M : Nat → Nat → Int32) (v3 : Int32) (v5 : Int32) (v7 : Int32) (v8 : Int32), fm_actGrave_187 Q n S M v3 v5 v7 v8 → ∀ (H : Heap) (locs : List Loc) (ls : Array Slot), lv_has ls 9 [(0, .ref o), (3, .int v3), (5, .int v5), (7, .int v7), (8, .int v8)] → zm_H D cI cZ ad o S M s H locs → W p l e (zm_R 2) s m args below meth c H locs 0 0 (MQ below (zm_QS Q D cI cZ ad o) args s 0 0 (zm_A ad o)) (F0 m 187 ls []) := by
  have hx := X.1
  have hb := X.2.1
  intro n
  induction n with
  | zero =>
    intro S M v3 v5 v7 v8 hF
    exact False.elim hF
  | succ n ih =>
    intro S M v3 v5 v7 v8 hF
    intro H locs ls hl hH
    unfold fm_actGrave_187 at hF
    refine lv_iload hx hb dX6_actGrave_187 (lv_at hl 4 rfl) ?_
    refine lv_sipush (v := 150) hx hb dX6_actGrave_189 (by decide) ?_
    refine lv_icmp_ge (tgt := 216) hx hb dX6_actGrave_192 (by decide) (fun cd => ?_) (fun cd => ?_)
    · have hF := hF.1 cd
      refine lv_iconst (v := 0) hx hb dX6_actGrave_216 (by decide) ?_
      refine lv_istore (lv' := [(8, .int 0), (0, .ref o), (3, .int v3), (5, .int v5), (7, .int v7)]) hx hb dX6_actGrave_217 hl (by decide) rfl (fun ls hl => ?_)
      obtain ⟨n9, hF⟩ := hF
      exact wm_actGrave_219 X n9 S M v3 v5 v7 0 hF _ _ _ (lv_sub hl [1, 2, 3, 4, 0] rfl) hH
    · have hF := hF.2 cd
      refine lv_aload_n hx hb dX6_actGrave_195 rfl (lv_at hl 0 rfl) ?_
      refine zm_getf X hH 20 (by decide) rfl q1733 dX6_actGrave_196 ?_
      refine lv_sipush (v := 150) hx hb dX6_actGrave_199 (by decide) ?_
      refine lv_iload hx hb dX6_actGrave_202 (lv_at hl 3 rfl) ?_
      refine lv_imul hx hb dX6_actGrave_204 ?_
      refine lv_iload hx hb dX6_actGrave_205 (lv_at hl 4 rfl) ?_
      refine lv_iadd hx hb dX6_actGrave_207 ?_
      refine lv_iconst (v := 0) hx hb dX6_actGrave_208 (by decide) ?_
      obtain ⟨hI, hF⟩ := hF
      refine zm_zast X hH 20 (by decide) rfl (n := 22500) rfl hI dX6_actGrave_209 (fun M1 H locs eM1 hH => ?_)
      have hF := hF M1 eM1
      obtain ⟨x2, ex2⟩ : ∃ z : Int32, z = v8 + 1 := ⟨_, rfl⟩
      have hF := hF x2 ex2
      refine lv_iinc (v := x2) (lv' := [(8, .int x2), (0, .ref o), (3, .int v3), (5, .int v5), (7, .int v7)]) hx hb dX6_actGrave_210 hl (k := 4) rfl (by rw [ex2]; rfl) (by decide) rfl (fun ls hl => ?_)
      refine lv_goto (tgt := 187) hx hb dX6_actGrave_213 (by decide) ?_
      exact ih S M1 v3 v5 v7 x2 hF _ _ _ (lv_sub hl [1, 2, 3, 4, 0] rfl) hH
set_option maxHeartbeats 4000000 in
set_option maxRecDepth 100000 in
/-- actGrave: what the bytecode asks is what its run needs -/
theorem wm_actGrave (l : Launch) (D : va_G) (cI cZ : ClassId) (ad : Nat → Nat) (o : Nat) (hAd : zm_Ad ad o) (S : Nat → Int32) (M : Nat → Nat → Int32) (v1 : Int32) (v2 : Int32) (v3 : Int32) (v4 : Int32) (v5 : Int32) (Q : Int32 → (Nat → Int32) → (Nat → Nat → Int32) → Prop) (hF : fm_actGrave S M v1 v2 v3 v4 v5 Q) :
    zm_Mi l yX6_actGrave (ws_ yX6_actGrave cX6_actGrave 9 (some .int)) 2 D cI cZ ad o [.int v1, .int v2, .int v3, .int v4, .int v5] S M Q := by
  refine zm_ofi rfl hAd (Nat.le_of_ble_eq_true rfl) ?_
  intro p e s m args below meth c H locs ls X hH hl
  have hx := X.1
  have hb := X.2.1
  have hl : lv_has ls 9 [(0, .ref o), (1, .int v1), (2, .int v2), (3, .int v3), (4, .int v4), (5, .int v5)] := hl
  unfold fm_actGrave at hF
  refine lv_iload hx hb dX6_actGrave_0 (lv_at hl 4 rfl) ?_
  refine lv_iconst (v := 1) hx hb dX6_actGrave_2 (by decide) ?_
  refine lv_icmp_lt (tgt := 34) hx hb dX6_actGrave_3 (by decide) (fun cd => ?_) (fun cd => ?_)
  · have hF := hF.1 cd
    refine lv_iconst (v := (-1)) hx hb dX6_actGrave_34 (by decide) ?_
    exact zm_iret X hH rfl rfl hF dX6_actGrave_35
  · have hF := hF.2 cd
    refine lv_iload hx hb dX6_actGrave_6 (lv_at hl 4 rfl) ?_
    refine lv_bipush (v := 6) hx hb dX6_actGrave_8 (by decide) ?_
    refine lv_icmp_gt (tgt := 34) hx hb dX6_actGrave_10 (by decide) (fun cd => ?_) (fun cd => ?_)
    · have hF := hF.1 cd
      refine lv_iconst (v := (-1)) hx hb dX6_actGrave_34 (by decide) ?_
      exact zm_iret X hH rfl rfl hF dX6_actGrave_35
    · have hF := hF.2 cd
      refine lv_aload_n hx hb dX6_actGrave_13 rfl (lv_at hl 0 rfl) ?_
      refine lv_iload hx hb dX6_actGrave_14 (lv_at hl 4 rfl) ?_
      refine lv_iload hx hb dX6_actGrave_16 (lv_at hl 5 rfl) ?_
      refine zm_calli (As := [.int v4, .int v5]) (rest := []) X hH (wm_isWide l D cI cZ ad o X.2.2.2.2.2.2.2.2 S M v4 v5 _ hF) (cwV 2 X.2.2.2.2.1 (lw_V q1916 q1918 qs39 q95 q1919) rfl rfl rfl (by decide +kernel) ⟨Nat.le_of_ble_eq_true rfl, Nat.le_of_ble_eq_true rfl⟩) rfl hl.1 rfl (Nat.le_of_ble_eq_true rfl) dX6_actGrave_18 (Nat.le_refl 0) (Nat.le_refl 0) (fun r3 S1 M2 H locs hF hH => ?_)
      obtain ⟨hF, e9, e8⟩ := hF; subst e9; subst e8
      refine lv_if_eq (tgt := 34) hx hb dX6_actGrave_21 (by decide) (fun cd => ?_) (fun cd => ?_)
      · have hF := hF.1 cd
        refine lv_iconst (v := (-1)) hx hb dX6_actGrave_34 (by decide) ?_
        exact zm_iret X hH rfl rfl hF dX6_actGrave_35
      · have hF := hF.2 cd
        refine lv_aload_n hx hb dX6_actGrave_24 rfl (lv_at hl 0 rfl) ?_
        refine zm_getf X hH 9 (by decide) rfl q1722 dX6_actGrave_25 ?_
        refine lv_sipush (v := 150) hx hb dX6_actGrave_28 (by decide) ?_
        refine lv_icmp_ne (tgt := 36) hx hb dX6_actGrave_31 (by decide) (fun cd => ?_) (fun cd => ?_)
        · have hF := hF.1 cd
          refine lv_aload_n hx hb dX6_actGrave_36 rfl (lv_at hl 0 rfl) ?_
          refine lv_iload_n hx hb dX6_actGrave_37 rfl (lv_at hl 1 rfl) ?_
          refine lv_iload_n hx hb dX6_actGrave_38 rfl (lv_at hl 2 rfl) ?_
          refine lv_iload_n hx hb dX6_actGrave_39 rfl (lv_at hl 3 rfl) ?_
          refine lv_iload hx hb dX6_actGrave_40 (lv_at hl 4 rfl) ?_
          refine lv_iload hx hb dX6_actGrave_42 (lv_at hl 5 rfl) ?_
          refine zm_calli (As := [.int v1, .int v2, .int v3, .int v4, .int v5]) (rest := []) X hH (wm_layFault l D cI cZ ad o X.2.2.2.2.2.2.2.2 S M v1 v2 v3 v4 v5 _ hF) (cwV 5 X.2.2.2.2.1 (lw_V q1920 q1922 qs40 q95 q1923) rfl rfl rfl (by decide +kernel) ⟨Nat.le_of_ble_eq_true rfl, Nat.le_of_ble_eq_true rfl⟩) rfl hl.1 rfl (Nat.le_of_ble_eq_true rfl) dX6_actGrave_44 (Nat.le_refl 0) (Nat.le_refl 0) (fun r6 S4 M5 H locs hF hH => ?_)
          obtain ⟨hF, e9, e8⟩ := hF; subst e9; subst e8
          refine lv_istore (lv' := [(6, .int r6), (0, .ref o), (1, .int v1), (2, .int v2), (3, .int v3), (4, .int v4), (5, .int v5)]) hx hb dX6_actGrave_47 hl (by decide) rfl (fun ls hl => ?_)
          refine lv_iload hx hb dX6_actGrave_49 (lv_at hl 0 rfl) ?_
          refine lv_if_eq (tgt := 57) hx hb dX6_actGrave_51 (by decide) (fun cd => ?_) (fun cd => ?_)
          · have hF := hF.1 cd
            refine lv_aload_n hx hb dX6_actGrave_57 rfl (lv_at hl 1 rfl) ?_
            refine zm_getf X hH 9 (by decide) rfl q1722 dX6_actGrave_58 ?_
            refine lv_topi (fun x7 ex7 => ?_)
            have hF := hF x7 ex7
            refine lv_istore (lv' := [(7, .int x7), (6, .int r6), (0, .ref o), (1, .int v1), (2, .int v2), (3, .int v3), (4, .int v4), (5, .int v5)]) hx hb dX6_actGrave_61 hl (by decide) rfl (fun ls hl => ?_)
            refine lv_aload_n hx hb dX6_actGrave_63 rfl (lv_at hl 2 rfl) ?_
            refine lv_dup hx hb dX6_actGrave_64 rfl ?_
            refine zm_getf X hH 9 (by decide) rfl q1722 dX6_actGrave_65 ?_
            refine lv_iconst (v := 1) hx hb dX6_actGrave_68 (by decide) ?_
            refine lv_iadd hx hb dX6_actGrave_69 ?_
            refine zm_puti X hH 9 (by decide) rfl rfl (by decide +kernel) q1722 dX6_actGrave_70 (fun S8 H locs eS8 hH => ?_)
            have hF := hF S8 eS8
            refine lv_aload_n hx hb dX6_actGrave_73 rfl (lv_at hl 2 rfl) ?_
            refine zm_getf X hH 10 (by decide) rfl q1723 dX6_actGrave_74 ?_
            refine lv_iload hx hb dX6_actGrave_77 (lv_at hl 0 rfl) ?_
            refine lv_iload hx hb dX6_actGrave_79 (lv_at hl 6 rfl) ?_
            obtain ⟨hI, hF⟩ := hF
            refine zm_iast X hH 10 (by decide) rfl (n := 150) rfl hI dX6_actGrave_81 (fun M9 H locs eM9 hH => ?_)
            have hF := hF M9 eM9
            refine lv_aload_n hx hb dX6_actGrave_82 rfl (lv_at hl 2 rfl) ?_
            refine zm_getf X hH 11 (by decide) rfl q1724 dX6_actGrave_83 ?_
            refine lv_iload hx hb dX6_actGrave_86 (lv_at hl 0 rfl) ?_
            refine lv_iconst (v := 0) hx hb dX6_actGrave_88 (by decide) ?_
            obtain ⟨hI, hF⟩ := hF
            refine zm_iast X hH 11 (by decide) rfl (n := 150) rfl hI dX6_actGrave_89 (fun M10 H locs eM10 hH => ?_)
            have hF := hF M10 eM10
            refine lv_aload_n hx hb dX6_actGrave_90 rfl (lv_at hl 2 rfl) ?_
            refine zm_getf X hH 12 (by decide) rfl q1725 dX6_actGrave_91 ?_
            refine lv_iload hx hb dX6_actGrave_94 (lv_at hl 0 rfl) ?_
            refine lv_iconst (v := (-1)) hx hb dX6_actGrave_96 (by decide) ?_
            obtain ⟨hI, hF⟩ := hF
            refine zm_iast X hH 12 (by decide) rfl (n := 150) rfl hI dX6_actGrave_97 (fun M11 H locs eM11 hH => ?_)
            have hF := hF M11 eM11
            refine lv_aload_n hx hb dX6_actGrave_98 rfl (lv_at hl 2 rfl) ?_
            refine zm_getf X hH 13 (by decide) rfl q1726 dX6_actGrave_99 ?_
            refine lv_iload hx hb dX6_actGrave_102 (lv_at hl 0 rfl) ?_
            refine lv_iconst (v := 0) hx hb dX6_actGrave_104 (by decide) ?_
            obtain ⟨hI, hF⟩ := hF
            refine zm_iast X hH 13 (by decide) rfl (n := 150) rfl hI dX6_actGrave_105 (fun M12 H locs eM12 hH => ?_)
            have hF := hF M12 eM12
            refine lv_aload_n hx hb dX6_actGrave_106 rfl (lv_at hl 2 rfl) ?_
            refine zm_getf X hH 14 (by decide) rfl q1727 dX6_actGrave_107 ?_
            refine lv_iload hx hb dX6_actGrave_110 (lv_at hl 0 rfl) ?_
            refine lv_iconst (v := (-1)) hx hb dX6_actGrave_112 (by decide) ?_
            obtain ⟨hI, hF⟩ := hF
            refine zm_iast X hH 14 (by decide) rfl (n := 150) rfl hI dX6_actGrave_113 (fun M13 H locs eM13 hH => ?_)
            have hF := hF M13 eM13
            refine lv_aload_n hx hb dX6_actGrave_114 rfl (lv_at hl 2 rfl) ?_
            refine zm_getf X hH 15 (by decide) rfl q1728 dX6_actGrave_115 ?_
            refine lv_iload hx hb dX6_actGrave_118 (lv_at hl 0 rfl) ?_
            refine lv_iconst (v := 0) hx hb dX6_actGrave_120 (by decide) ?_
            obtain ⟨hI, hF⟩ := hF
            refine zm_iast X hH 15 (by decide) rfl (n := 150) rfl hI dX6_actGrave_121 (fun M14 H locs eM14 hH => ?_)
            have hF := hF M14 eM14
            refine lv_aload_n hx hb dX6_actGrave_122 rfl (lv_at hl 2 rfl) ?_
            refine zm_getf X hH 16 (by decide) rfl q1729 dX6_actGrave_123 ?_
            refine lv_iload hx hb dX6_actGrave_126 (lv_at hl 0 rfl) ?_
            refine lv_bipush (v := 12) hx hb dX6_actGrave_128 (by decide) ?_
            refine lv_iload_n hx hb dX6_actGrave_130 rfl (lv_at hl 3 rfl) ?_
            refine lv_imul hx hb dX6_actGrave_131 ?_
            refine lv_iload_n hx hb dX6_actGrave_132 rfl (lv_at hl 4 rfl) ?_
            refine lv_iadd hx hb dX6_actGrave_133 ?_
            obtain ⟨hI, hF⟩ := hF
            refine zm_iast X hH 16 (by decide) rfl (n := 150) rfl hI dX6_actGrave_134 (fun M15 H locs eM15 hH => ?_)
            have hF := hF M15 eM15
            refine lv_aload_n hx hb dX6_actGrave_135 rfl (lv_at hl 2 rfl) ?_
            refine zm_getf X hH 17 (by decide) rfl q1730 dX6_actGrave_136 ?_
            refine lv_iload hx hb dX6_actGrave_139 (lv_at hl 0 rfl) ?_
            refine lv_iload_n hx hb dX6_actGrave_141 rfl (lv_at hl 5 rfl) ?_
            obtain ⟨hI, hF⟩ := hF
            refine zm_iast X hH 17 (by decide) rfl (n := 150) rfl hI dX6_actGrave_142 (fun M16 H locs eM16 hH => ?_)
            have hF := hF M16 eM16
            refine lv_aload_n hx hb dX6_actGrave_143 rfl (lv_at hl 2 rfl) ?_
            refine zm_getf X hH 18 (by decide) rfl q1731 dX6_actGrave_144 ?_
            refine lv_iload hx hb dX6_actGrave_147 (lv_at hl 0 rfl) ?_
            refine lv_iload hx hb dX6_actGrave_149 (lv_at hl 7 rfl) ?_
            obtain ⟨hI, hF⟩ := hF
            refine zm_iast X hH 18 (by decide) rfl (n := 150) rfl hI dX6_actGrave_151 (fun M17 H locs eM17 hH => ?_)
            have hF := hF M17 eM17
            refine lv_aload_n hx hb dX6_actGrave_152 rfl (lv_at hl 2 rfl) ?_
            refine zm_getf X hH 19 (by decide) rfl q1732 dX6_actGrave_153 ?_
            refine lv_iload hx hb dX6_actGrave_156 (lv_at hl 0 rfl) ?_
            refine lv_iconst (v := (-1)) hx hb dX6_actGrave_158 (by decide) ?_
            obtain ⟨hI, hF⟩ := hF
            refine zm_iast X hH 19 (by decide) rfl (n := 150) rfl hI dX6_actGrave_159 (fun M18 H locs eM18 hH => ?_)
            have hF := hF M18 eM18
            refine lv_aload_n hx hb dX6_actGrave_160 rfl (lv_at hl 2 rfl) ?_
            refine zm_getf X hH 22 (by decide) rfl q1735 dX6_actGrave_161 ?_
            refine lv_iload hx hb dX6_actGrave_164 (lv_at hl 0 rfl) ?_
            refine lv_iconst (v := 0) hx hb dX6_actGrave_166 (by decide) ?_
            obtain ⟨hI, hF⟩ := hF
            refine zm_iast X hH 22 (by decide) rfl (n := 150) rfl hI dX6_actGrave_167 (fun M19 H locs eM19 hH => ?_)
            have hF := hF M19 eM19
            refine lv_aload_n hx hb dX6_actGrave_168 rfl (lv_at hl 2 rfl) ?_
            refine zm_getf X hH 23 (by decide) rfl q1736 dX6_actGrave_169 ?_
            refine lv_iload hx hb dX6_actGrave_172 (lv_at hl 0 rfl) ?_
            refine lv_iconst (v := 0) hx hb dX6_actGrave_174 (by decide) ?_
            obtain ⟨hI, hF⟩ := hF
            refine zm_iast X hH 23 (by decide) rfl (n := 150) rfl hI dX6_actGrave_175 (fun M20 H locs eM20 hH => ?_)
            have hF := hF M20 eM20
            refine lv_aload_n hx hb dX6_actGrave_176 rfl (lv_at hl 2 rfl) ?_
            refine zm_getf X hH 26 (by decide) rfl q1739 dX6_actGrave_177 ?_
            refine lv_iload hx hb dX6_actGrave_180 (lv_at hl 0 rfl) ?_
            refine lv_iconst (v := 0) hx hb dX6_actGrave_182 (by decide) ?_
            obtain ⟨hI, hF⟩ := hF
            refine zm_iast X hH 26 (by decide) rfl (n := 150) rfl hI dX6_actGrave_183 (fun M21 H locs eM21 hH => ?_)
            have hF := hF M21 eM21
            refine lv_iconst (v := 0) hx hb dX6_actGrave_184 (by decide) ?_
            refine lv_istore (lv' := [(8, .int 0), (7, .int x7), (6, .int r6), (0, .ref o), (1, .int v1), (2, .int v2), (3, .int v3), (4, .int v4), (5, .int v5)]) hx hb dX6_actGrave_185 hl (by decide) rfl (fun ls hl => ?_)
            obtain ⟨n9, hF⟩ := hF
            exact wm_actGrave_187 X n9 S8 M21 v3 v5 x7 0 hF _ _ _ (lv_sub hl [3, 6, 8, 1, 0] rfl) hH
          · have hF := hF.2 cd
            refine lv_iload hx hb dX6_actGrave_54 (lv_at hl 0 rfl) ?_
            exact zm_iret X hH rfl rfl hF dX6_actGrave_56
        · have hF := hF.2 cd
          refine lv_iconst (v := (-1)) hx hb dX6_actGrave_34 (by decide) ?_
          exact zm_iret X hH rfl rfl hF dX6_actGrave_35
set_option maxHeartbeats 4000000 in
set_option maxRecDepth 100000 in
/-- isGrave: what the bytecode asks is what its run needs -/
theorem wm_isGrave (l : Launch) (D : va_G) (cI cZ : ClassId) (ad : Nat → Nat) (o : Nat) (hAd : zm_Ad ad o) (S : Nat → Int32) (M : Nat → Nat → Int32) (v1 : Int32) (Q : Int32 → Prop) (hF : fm_isGrave S M v1 Q) :
    zm_Mi l yX6_isGrave (ws_ yX6_isGrave cX6_isGrave 2 (some .boolean)) 0 D cI cZ ad o [.int v1] S M (fun r S1 M1 => Q r ∧ S = S1 ∧ M = M1) := by
  refine zm_ofi rfl hAd (Nat.le_of_ble_eq_true rfl) ?_
  intro p e s m args below meth c H locs ls X hH hl
  have hx := X.1
  have hb := X.2.1
  have hl : lv_has ls 2 [(0, .ref o), (1, .int v1)] := hl
  unfold fm_isGrave at hF
  refine lv_iload_n hx hb dX6_isGrave_0 rfl (lv_at hl 1 rfl) ?_
  refine lv_if_lt (tgt := 16) hx hb dX6_isGrave_1 (by decide) (fun cd => ?_) (fun cd => ?_)
  · have hF := hF.1 cd
    refine lv_iconst (v := 0) hx hb dX6_isGrave_16 (by decide) ?_
    exact zm_iret X hH rfl rfl ⟨hF, rfl, rfl⟩ dX6_isGrave_17
  · have hF := hF.2 cd
    refine lv_iload_n hx hb dX6_isGrave_4 rfl (lv_at hl 1 rfl) ?_
    refine lv_aload_n hx hb dX6_isGrave_5 rfl (lv_at hl 0 rfl) ?_
    refine zm_getf X hH 9 (by decide) rfl q1722 dX6_isGrave_6 ?_
    refine lv_icmp_ge (tgt := 16) hx hb dX6_isGrave_9 (by decide) (fun cd => ?_) (fun cd => ?_)
    · have hF := hF.1 cd
      refine lv_iconst (v := 0) hx hb dX6_isGrave_16 (by decide) ?_
      exact zm_iret X hH rfl rfl ⟨hF, rfl, rfl⟩ dX6_isGrave_17
    · have hF := hF.2 cd
      refine lv_iconst (v := 1) hx hb dX6_isGrave_12 (by decide) ?_
      refine lv_goto (tgt := 17) hx hb dX6_isGrave_13 (by decide) ?_
      exact zm_iret X hH rfl rfl ⟨hF, rfl, rfl⟩ dX6_isGrave_17
set_option maxHeartbeats 4000000 in
set_option maxRecDepth 100000 in
/-- isPerson: what the bytecode asks is what its run needs -/
theorem wm_isPerson (l : Launch) (D : va_G) (cI cZ : ClassId) (ad : Nat → Nat) (o : Nat) (hAd : zm_Ad ad o) (S : Nat → Int32) (M : Nat → Nat → Int32) (v1 : Int32) (Q : Int32 → Prop) (hF : fm_isPerson S M v1 Q) :
    zm_Mi l yX6_isPerson (ws_ yX6_isPerson cX6_isPerson 2 (some .boolean)) 0 D cI cZ ad o [.int v1] S M (fun r S1 M1 => Q r ∧ S = S1 ∧ M = M1) := by
  refine zm_ofi rfl hAd (Nat.le_of_ble_eq_true rfl) ?_
  intro p e s m args below meth c H locs ls X hH hl
  have hx := X.1
  have hb := X.2.1
  have hl : lv_has ls 2 [(0, .ref o), (1, .int v1)] := hl
  unfold fm_isPerson at hF
  refine lv_iload_n hx hb dX6_isPerson_0 rfl (lv_at hl 1 rfl) ?_
  refine lv_if_lt (tgt := 16) hx hb dX6_isPerson_1 (by decide) (fun cd => ?_) (fun cd => ?_)
  · have hF := hF.1 cd
    refine lv_iconst (v := 0) hx hb dX6_isPerson_16 (by decide) ?_
    exact zm_iret X hH rfl rfl ⟨hF, rfl, rfl⟩ dX6_isPerson_17
  · have hF := hF.2 cd
    refine lv_iload_n hx hb dX6_isPerson_4 rfl (lv_at hl 1 rfl) ?_
    refine lv_aload_n hx hb dX6_isPerson_5 rfl (lv_at hl 0 rfl) ?_
    refine zm_getf X hH 27 (by decide) rfl q1740 dX6_isPerson_6 ?_
    refine lv_icmp_ge (tgt := 16) hx hb dX6_isPerson_9 (by decide) (fun cd => ?_) (fun cd => ?_)
    · have hF := hF.1 cd
      refine lv_iconst (v := 0) hx hb dX6_isPerson_16 (by decide) ?_
      exact zm_iret X hH rfl rfl ⟨hF, rfl, rfl⟩ dX6_isPerson_17
    · have hF := hF.2 cd
      refine lv_iconst (v := 1) hx hb dX6_isPerson_12 (by decide) ?_
      refine lv_goto (tgt := 17) hx hb dX6_isPerson_13 (by decide) ?_
      exact zm_iret X hH rfl rfl ⟨hF, rfl, rfl⟩ dX6_isPerson_17
set_option maxHeartbeats 4000000 in
set_option maxRecDepth 100000 in
/-- columns: what the bytecode asks is what its run needs -/
theorem wm_columns (l : Launch) (D : va_G) (cI cZ : ClassId) (ad : Nat → Nat) (o : Nat) (hAd : zm_Ad ad o) (S : Nat → Int32) (M : Nat → Nat → Int32) (v1 : Int32) (Q : Int32 → Prop) (hF : fm_columns S M v1 Q) :
    zm_Mi l yX6_columns (ws_ yX6_columns cX6_columns 2 (some .int)) 0 D cI cZ ad o [.int v1] S M (fun r S1 M1 => Q r ∧ S = S1 ∧ M = M1) := by
  refine zm_ofi rfl hAd (Nat.le_of_ble_eq_true rfl) ?_
  intro p e s m args below meth c H locs ls X hH hl
  have hx := X.1
  have hb := X.2.1
  have hl : lv_has ls 2 [(0, .ref o), (1, .int v1)] := hl
  unfold fm_columns at hF
  refine lv_aload_n hx hb dX6_columns_0 rfl (lv_at hl 0 rfl) ?_
  refine zm_getf X hH 10 (by decide) rfl q1723 dX6_columns_1 ?_
  refine lv_iload_n hx hb dX6_columns_4 rfl (lv_at hl 1 rfl) ?_
  obtain ⟨hI, hF⟩ := hF
  refine zm_iald X hH 10 (by decide) rfl (n := 150) rfl hI dX6_columns_5 ?_
  refine lv_iconst (v := 3) hx hb dX6_columns_6 (by decide) ?_
  refine lv_icmp_ne (tgt := 19) hx hb dX6_columns_7 (by decide) (fun cd => ?_) (fun cd => ?_)
  · have hF := hF.1 cd
    refine lv_aload_n hx hb dX6_columns_19 rfl (lv_at hl 0 rfl) ?_
    refine zm_getf X hH 10 (by decide) rfl q1723 dX6_columns_20 ?_
    refine lv_iload_n hx hb dX6_columns_23 rfl (lv_at hl 1 rfl) ?_
    obtain ⟨hI, hF⟩ := hF
    refine zm_iald X hH 10 (by decide) rfl (n := 150) rfl hI dX6_columns_24 ?_
    refine lv_iconst (v := 4) hx hb dX6_columns_25 (by decide) ?_
    refine lv_icmp_ne (tgt := 33) hx hb dX6_columns_26 (by decide) (fun cd => ?_) (fun cd => ?_)
    · have hF := hF.1 cd
      refine lv_iconst (v := 1) hx hb dX6_columns_33 (by decide) ?_
      exact zm_iret X hH rfl rfl ⟨hF, rfl, rfl⟩ dX6_columns_34
    · have hF := hF.2 cd
      refine lv_iconst (v := 4) hx hb dX6_columns_29 (by decide) ?_
      refine lv_goto (tgt := 34) hx hb dX6_columns_30 (by decide) ?_
      exact zm_iret X hH rfl rfl ⟨hF, rfl, rfl⟩ dX6_columns_34
  · have hF := hF.2 cd
    refine lv_aload_n hx hb dX6_columns_10 rfl (lv_at hl 0 rfl) ?_
    refine zm_getf X hH 18 (by decide) rfl q1731 dX6_columns_11 ?_
    refine lv_iload_n hx hb dX6_columns_14 rfl (lv_at hl 1 rfl) ?_
    obtain ⟨hI, hF⟩ := hF
    refine zm_iald X hH 18 (by decide) rfl (n := 150) rfl hI dX6_columns_15 ?_
    refine lv_goto (tgt := 34) hx hb dX6_columns_16 (by decide) ?_
    exact zm_iret X hH rfl rfl ⟨hF, rfl, rfl⟩ dX6_columns_34
set_option maxHeartbeats 4000000 in
set_option maxRecDepth 100000 in
/-- yearly: what the bytecode asks is what its run needs -/
theorem wm_yearly (l : Launch) (D : va_G) (cI cZ : ClassId) (ad : Nat → Nat) (o : Nat) (hAd : zm_Ad ad o) (S : Nat → Int32) (M : Nat → Nat → Int32) (v1 : Int32) (Q : Int32 → Prop) (hF : fm_yearly S M v1 Q) :
    zm_Mi l yX6_yearly (ws_ yX6_yearly cX6_yearly 2 (some .int)) 0 D cI cZ ad o [.int v1] S M (fun r S1 M1 => Q r ∧ S = S1 ∧ M = M1) := by
  refine zm_ofi rfl hAd (Nat.le_of_ble_eq_true rfl) ?_
  intro p e s m args below meth c H locs ls X hH hl
  have hx := X.1
  have hb := X.2.1
  have hl : lv_has ls 2 [(0, .ref o), (1, .int v1)] := hl
  unfold fm_yearly at hF
  refine lv_bipush (v := 10) hx hb dX6_yearly_0 (by decide) ?_
  refine lv_aload_n hx hb dX6_yearly_2 rfl (lv_at hl 0 rfl) ?_
  refine zm_getf X hH 18 (by decide) rfl q1731 dX6_yearly_3 ?_
  refine lv_iload_n hx hb dX6_yearly_6 rfl (lv_at hl 1 rfl) ?_
  obtain ⟨hI, hF⟩ := hF
  refine zm_iald X hH 18 (by decide) rfl (n := 150) rfl hI dX6_yearly_7 ?_
  refine lv_imul hx hb dX6_yearly_8 ?_
  refine lv_aload_n hx hb dX6_yearly_9 rfl (lv_at hl 0 rfl) ?_
  refine zm_getf X hH 10 (by decide) rfl q1723 dX6_yearly_10 ?_
  refine lv_iload_n hx hb dX6_yearly_13 rfl (lv_at hl 1 rfl) ?_
  obtain ⟨hI, hF⟩ := hF
  refine zm_iald X hH 10 (by decide) rfl (n := 150) rfl hI dX6_yearly_14 ?_
  refine lv_iconst (v := 3) hx hb dX6_yearly_15 (by decide) ?_
  refine lv_icmp_ne (tgt := 32) hx hb dX6_yearly_16 (by decide) (fun cd => ?_) (fun cd => ?_)
  · have hF := hF.1 cd
    refine lv_iconst (v := 0) hx hb dX6_yearly_32 (by decide) ?_
    refine lv_iadd hx hb dX6_yearly_33 ?_
    exact zm_iret X hH rfl rfl ⟨hF, rfl, rfl⟩ dX6_yearly_34
  · have hF := hF.2 cd
    refine lv_iconst (v := 5) hx hb dX6_yearly_19 (by decide) ?_
    refine lv_aload_n hx hb dX6_yearly_20 rfl (lv_at hl 0 rfl) ?_
    refine zm_getf X hH 18 (by decide) rfl q1731 dX6_yearly_21 ?_
    refine lv_iload_n hx hb dX6_yearly_24 rfl (lv_at hl 1 rfl) ?_
    obtain ⟨hI, hF⟩ := hF
    refine zm_iald X hH 18 (by decide) rfl (n := 150) rfl hI dX6_yearly_25 ?_
    refine lv_iconst (v := 1) hx hb dX6_yearly_26 (by decide) ?_
    refine lv_isub hx hb dX6_yearly_27 ?_
    refine lv_imul hx hb dX6_yearly_28 ?_
    refine lv_goto (tgt := 33) hx hb dX6_yearly_29 (by decide) ?_
    refine lv_iadd hx hb dX6_yearly_33 ?_
    exact zm_iret X hH rfl rfl ⟨hF, rfl, rfl⟩ dX6_yearly_34
set_option maxHeartbeats 4000000 in
set_option maxRecDepth 100000 in
/-- actPerson: what the bytecode asks is what its run needs -/
theorem wm_actPerson (l : Launch) (D : va_G) (cI cZ : ClassId) (ad : Nat → Nat) (o : Nat) (hAd : zm_Ad ad o) (S : Nat → Int32) (M : Nat → Nat → Int32) (v1 : Int32) (Q : Int32 → (Nat → Int32) → (Nat → Nat → Int32) → Prop) (hF : fm_actPerson S M v1 Q) :
    zm_Mi l yX6_actPerson (ws_ yX6_actPerson cX6_actPerson 3 (some .int)) 0 D cI cZ ad o [.int v1] S M Q := by
  refine zm_ofi rfl hAd (Nat.le_of_ble_eq_true rfl) ?_
  intro p e s m args below meth c H locs ls X hH hl
  have hx := X.1
  have hb := X.2.1
  have hl : lv_has ls 3 [(0, .ref o), (1, .int v1)] := hl
  unfold fm_actPerson at hF
  refine lv_iload_n hx hb dX6_actPerson_0 rfl (lv_at hl 1 rfl) ?_
  refine lv_aload_n hx hb dX6_actPerson_1 rfl (lv_at hl 0 rfl) ?_
  refine zm_getf X hH 1 (by decide) rfl q1714 dX6_actPerson_2 ?_
  refine lv_icmp_gt (tgt := 24) hx hb dX6_actPerson_5 (by decide) (fun cd => ?_) (fun cd => ?_)
  · have hF := hF.1 cd
    refine lv_iconst (v := (-1)) hx hb dX6_actPerson_24 (by decide) ?_
    exact zm_iret X hH rfl rfl hF dX6_actPerson_25
  · have hF := hF.2 cd
    refine lv_iload_n hx hb dX6_actPerson_8 rfl (lv_at hl 1 rfl) ?_
    refine lv_ldc (v := (-40000)) hx hb X.2.2.2.1 (X.2.2.2.2.1 _ q1936) dX6_actPerson_9 ?_
    refine lv_icmp_lt (tgt := 24) hx hb dX6_actPerson_11 (by decide) (fun cd => ?_) (fun cd => ?_)
    · have hF := hF.1 cd
      refine lv_iconst (v := (-1)) hx hb dX6_actPerson_24 (by decide) ?_
      exact zm_iret X hH rfl rfl hF dX6_actPerson_25
    · have hF := hF.2 cd
      refine lv_aload_n hx hb dX6_actPerson_14 rfl (lv_at hl 0 rfl) ?_
      refine zm_getf X hH 27 (by decide) rfl q1740 dX6_actPerson_15 ?_
      refine lv_sipush (v := 150) hx hb dX6_actPerson_18 (by decide) ?_
      refine lv_icmp_ne (tgt := 26) hx hb dX6_actPerson_21 (by decide) (fun cd => ?_) (fun cd => ?_)
      · have hF := hF.1 cd
        refine lv_aload_n hx hb dX6_actPerson_26 rfl (lv_at hl 0 rfl) ?_
        refine zm_getf X hH 27 (by decide) rfl q1740 dX6_actPerson_27 ?_
        refine lv_topi (fun x1 ex1 => ?_)
        have hF := hF x1 ex1
        refine lv_istore_n (lv' := [(2, .int x1), (0, .ref o), (1, .int v1)]) hx hb dX6_actPerson_30 rfl hl (by decide) rfl (fun ls hl => ?_)
        refine lv_aload_n hx hb dX6_actPerson_31 rfl (lv_at hl 1 rfl) ?_
        refine lv_dup hx hb dX6_actPerson_32 rfl ?_
        refine zm_getf X hH 27 (by decide) rfl q1740 dX6_actPerson_33 ?_
        refine lv_iconst (v := 1) hx hb dX6_actPerson_36 (by decide) ?_
        refine lv_iadd hx hb dX6_actPerson_37 ?_
        refine zm_puti X hH 27 (by decide) rfl rfl (by decide +kernel) q1740 dX6_actPerson_38 (fun S2 H locs eS2 hH => ?_)
        have hF := hF S2 eS2
        refine lv_aload_n hx hb dX6_actPerson_41 rfl (lv_at hl 1 rfl) ?_
        refine zm_getf X hH 28 (by decide) rfl q1741 dX6_actPerson_42 ?_
        refine lv_iload_n hx hb dX6_actPerson_45 rfl (lv_at hl 0 rfl) ?_
        refine lv_iload_n hx hb dX6_actPerson_46 rfl (lv_at hl 2 rfl) ?_
        obtain ⟨hI, hF⟩ := hF
        refine zm_iast X hH 28 (by decide) rfl (n := 150) rfl hI dX6_actPerson_47 (fun M3 H locs eM3 hH => ?_)
        have hF := hF M3 eM3
        refine lv_aload_n hx hb dX6_actPerson_48 rfl (lv_at hl 1 rfl) ?_
        refine zm_getf X hH 29 (by decide) rfl q1742 dX6_actPerson_49 ?_
        refine lv_iload_n hx hb dX6_actPerson_52 rfl (lv_at hl 0 rfl) ?_
        refine lv_iconst (v := 0) hx hb dX6_actPerson_53 (by decide) ?_
        obtain ⟨hI, hF⟩ := hF
        refine zm_zast X hH 29 (by decide) rfl (n := 150) rfl hI dX6_actPerson_54 (fun M4 H locs eM4 hH => ?_)
        have hF := hF M4 eM4
        refine lv_aload_n hx hb dX6_actPerson_55 rfl (lv_at hl 1 rfl) ?_
        refine zm_getf X hH 30 (by decide) rfl q1743 dX6_actPerson_56 ?_
        refine lv_iload_n hx hb dX6_actPerson_59 rfl (lv_at hl 0 rfl) ?_
        refine lv_iconst (v := 0) hx hb dX6_actPerson_60 (by decide) ?_
        obtain ⟨hI, hF⟩ := hF
        refine zm_iast X hH 30 (by decide) rfl (n := 150) rfl hI dX6_actPerson_61 (fun M5 H locs eM5 hH => ?_)
        have hF := hF M5 eM5
        refine lv_aload_n hx hb dX6_actPerson_62 rfl (lv_at hl 1 rfl) ?_
        refine zm_getf X hH 31 (by decide) rfl q1744 dX6_actPerson_63 ?_
        refine lv_iload_n hx hb dX6_actPerson_66 rfl (lv_at hl 0 rfl) ?_
        refine lv_iconst (v := (-1)) hx hb dX6_actPerson_67 (by decide) ?_
        obtain ⟨hI, hF⟩ := hF
        refine zm_iast X hH 31 (by decide) rfl (n := 150) rfl hI dX6_actPerson_68 (fun M6 H locs eM6 hH => ?_)
        have hF := hF M6 eM6
        refine lv_aload_n hx hb dX6_actPerson_69 rfl (lv_at hl 1 rfl) ?_
        refine zm_getf X hH 32 (by decide) rfl q1745 dX6_actPerson_70 ?_
        refine lv_iload_n hx hb dX6_actPerson_73 rfl (lv_at hl 0 rfl) ?_
        refine lv_iconst (v := 0) hx hb dX6_actPerson_74 (by decide) ?_
        obtain ⟨hI, hF⟩ := hF
        refine zm_iast X hH 32 (by decide) rfl (n := 150) rfl hI dX6_actPerson_75 (fun M7 H locs eM7 hH => ?_)
        have hF := hF M7 eM7
        refine lv_aload_n hx hb dX6_actPerson_76 rfl (lv_at hl 1 rfl) ?_
        refine zm_getf X hH 33 (by decide) rfl q1746 dX6_actPerson_77 ?_
        refine lv_iload_n hx hb dX6_actPerson_80 rfl (lv_at hl 0 rfl) ?_
        refine lv_iconst (v := 0) hx hb dX6_actPerson_81 (by decide) ?_
        obtain ⟨hI, hF⟩ := hF
        refine zm_iast X hH 33 (by decide) rfl (n := 150) rfl hI dX6_actPerson_82 (fun M8 H locs eM8 hH => ?_)
        have hF := hF M8 eM8
        refine lv_aload_n hx hb dX6_actPerson_83 rfl (lv_at hl 1 rfl) ?_
        refine zm_getf X hH 34 (by decide) rfl q1747 dX6_actPerson_84 ?_
        refine lv_iload_n hx hb dX6_actPerson_87 rfl (lv_at hl 0 rfl) ?_
        refine lv_iconst (v := 0) hx hb dX6_actPerson_88 (by decide) ?_
        obtain ⟨hI, hF⟩ := hF
        refine zm_iast X hH 34 (by decide) rfl (n := 150) rfl hI dX6_actPerson_89 (fun M9 H locs eM9 hH => ?_)
        have hF := hF M9 eM9
        refine lv_aload_n hx hb dX6_actPerson_90 rfl (lv_at hl 1 rfl) ?_
        refine zm_getf X hH 35 (by decide) rfl q1748 dX6_actPerson_91 ?_
        refine lv_iload_n hx hb dX6_actPerson_94 rfl (lv_at hl 0 rfl) ?_
        refine lv_iconst (v := (-1)) hx hb dX6_actPerson_95 (by decide) ?_
        obtain ⟨hI, hF⟩ := hF
        refine zm_iast X hH 35 (by decide) rfl (n := 150) rfl hI dX6_actPerson_96 (fun M10 H locs eM10 hH => ?_)
        have hF := hF M10 eM10
        refine lv_aload_n hx hb dX6_actPerson_97 rfl (lv_at hl 1 rfl) ?_
        refine zm_getf X hH 36 (by decide) rfl q1749 dX6_actPerson_98 ?_
        refine lv_iload_n hx hb dX6_actPerson_101 rfl (lv_at hl 0 rfl) ?_
        refine lv_iconst (v := (-1)) hx hb dX6_actPerson_102 (by decide) ?_
        obtain ⟨hI, hF⟩ := hF
        refine zm_iast X hH 36 (by decide) rfl (n := 150) rfl hI dX6_actPerson_103 (fun M11 H locs eM11 hH => ?_)
        have hF := hF M11 eM11
        refine lv_aload_n hx hb dX6_actPerson_104 rfl (lv_at hl 1 rfl) ?_
        refine zm_getf X hH 37 (by decide) rfl q1750 dX6_actPerson_105 ?_
        refine lv_iload_n hx hb dX6_actPerson_108 rfl (lv_at hl 0 rfl) ?_
        refine lv_iconst (v := (-1)) hx hb dX6_actPerson_109 (by decide) ?_
        obtain ⟨hI, hF⟩ := hF
        refine zm_iast X hH 37 (by decide) rfl (n := 150) rfl hI dX6_actPerson_110 (fun M12 H locs eM12 hH => ?_)
        have hF := hF M12 eM12
        refine lv_aload_n hx hb dX6_actPerson_111 rfl (lv_at hl 1 rfl) ?_
        refine zm_getf X hH 38 (by decide) rfl q1751 dX6_actPerson_112 ?_
        refine lv_iload_n hx hb dX6_actPerson_115 rfl (lv_at hl 0 rfl) ?_
        refine lv_iconst (v := (-1)) hx hb dX6_actPerson_116 (by decide) ?_
        obtain ⟨hI, hF⟩ := hF
        refine zm_iast X hH 38 (by decide) rfl (n := 150) rfl hI dX6_actPerson_117 (fun M13 H locs eM13 hH => ?_)
        have hF := hF M13 eM13
        refine lv_aload_n hx hb dX6_actPerson_118 rfl (lv_at hl 1 rfl) ?_
        refine zm_getf X hH 39 (by decide) rfl q1752 dX6_actPerson_119 ?_
        refine lv_iload_n hx hb dX6_actPerson_122 rfl (lv_at hl 0 rfl) ?_
        refine lv_iconst (v := (-1)) hx hb dX6_actPerson_123 (by decide) ?_
        obtain ⟨hI, hF⟩ := hF
        refine zm_iast X hH 39 (by decide) rfl (n := 150) rfl hI dX6_actPerson_124 (fun M14 H locs eM14 hH => ?_)
        have hF := hF M14 eM14
        refine lv_iload_n hx hb dX6_actPerson_125 rfl (lv_at hl 0 rfl) ?_
        exact zm_iret X hH rfl rfl hF dX6_actPerson_126
      · have hF := hF.2 cd
        refine lv_iconst (v := (-1)) hx hb dX6_actPerson_24 (by decide) ?_
        exact zm_iret X hH rfl rfl hF dX6_actPerson_25
set_option maxHeartbeats 4000000 in
set_option maxRecDepth 100000 in
/-- actKin: what the bytecode asks is what its run needs -/
theorem wm_actKin (l : Launch) (D : va_G) (cI cZ : ClassId) (ad : Nat → Nat) (o : Nat) (hAd : zm_Ad ad o) (S : Nat → Int32) (M : Nat → Nat → Int32) (v1 : Int32) (v2 : Int32) (v3 : Int32) (Q : Int32 → (Nat → Int32) → (Nat → Nat → Int32) → Prop) (hF : fm_actKin S M v1 v2 v3 Q) :
    zm_Mi l yX6_actKin (ws_ yX6_actKin cX6_actKin 4 (some .int)) 1 D cI cZ ad o [.int v1, .int v2, .int v3] S M Q := by
  refine zm_ofi rfl hAd (Nat.le_of_ble_eq_true rfl) ?_
  intro p e s m args below meth c H locs ls X hH hl
  have hx := X.1
  have hb := X.2.1
  have hl : lv_has ls 4 [(0, .ref o), (1, .int v1), (2, .int v2), (3, .int v3)] := hl
  unfold fm_actKin at hF
  refine lv_aload_n hx hb dX6_actKin_0 rfl (lv_at hl 0 rfl) ?_
  refine lv_iload_n hx hb dX6_actKin_1 rfl (lv_at hl 1 rfl) ?_
  refine zm_calli (As := [.int v1]) (rest := []) X hH (wm_isPerson l D cI cZ ad o X.2.2.2.2.2.2.2.2 S M v1 _ hF) (cwV 1 X.2.2.2.2.1 (lw_V q1941 q1943 qs45 q95 q1944) rfl rfl rfl (by decide +kernel) ⟨Nat.le_of_ble_eq_true rfl, Nat.le_of_ble_eq_true rfl⟩) rfl hl.1 rfl (Nat.le_of_ble_eq_true rfl) dX6_actKin_2 (Nat.le_refl 0) (Nat.le_refl 0) (fun r3 S1 M2 H locs hF hH => ?_)
  obtain ⟨hF, e9, e8⟩ := hF; subst e9; subst e8
  refine lv_if_eq (tgt := 30) hx hb dX6_actKin_5 (by decide) (fun cd => ?_) (fun cd => ?_)
  · have hF := hF.1 cd
    refine lv_iconst (v := (-1)) hx hb dX6_actKin_30 (by decide) ?_
    exact zm_iret X hH rfl rfl hF dX6_actKin_31
  · have hF := hF.2 cd
    refine lv_aload_n hx hb dX6_actKin_8 rfl (lv_at hl 0 rfl) ?_
    refine lv_iload_n hx hb dX6_actKin_9 rfl (lv_at hl 3 rfl) ?_
    refine zm_calli (As := [.int v3]) (rest := []) X hH (wm_isPerson l D cI cZ ad o X.2.2.2.2.2.2.2.2 S M v3 _ hF) (cwV 1 X.2.2.2.2.1 (lw_V q1941 q1943 qs45 q95 q1944) rfl rfl rfl (by decide +kernel) ⟨Nat.le_of_ble_eq_true rfl, Nat.le_of_ble_eq_true rfl⟩) rfl hl.1 rfl (Nat.le_of_ble_eq_true rfl) dX6_actKin_10 (Nat.le_refl 0) (Nat.le_refl 0) (fun r6 S4 M5 H locs hF hH => ?_)
    obtain ⟨hF, e9, e8⟩ := hF; subst e9; subst e8
    refine lv_if_eq (tgt := 30) hx hb dX6_actKin_13 (by decide) (fun cd => ?_) (fun cd => ?_)
    · have hF := hF.1 cd
      refine lv_iconst (v := (-1)) hx hb dX6_actKin_30 (by decide) ?_
      exact zm_iret X hH rfl rfl hF dX6_actKin_31
    · have hF := hF.2 cd
      refine lv_iload_n hx hb dX6_actKin_16 rfl (lv_at hl 2 rfl) ?_
      refine lv_if_lt (tgt := 30) hx hb dX6_actKin_17 (by decide) (fun cd => ?_) (fun cd => ?_)
      · have hF := hF.1 cd
        refine lv_iconst (v := (-1)) hx hb dX6_actKin_30 (by decide) ?_
        exact zm_iret X hH rfl rfl hF dX6_actKin_31
      · have hF := hF.2 cd
        refine lv_iload_n hx hb dX6_actKin_20 rfl (lv_at hl 2 rfl) ?_
        refine lv_iconst (v := 1) hx hb dX6_actKin_21 (by decide) ?_
        refine lv_icmp_gt (tgt := 30) hx hb dX6_actKin_22 (by decide) (fun cd => ?_) (fun cd => ?_)
        · have hF := hF.1 cd
          refine lv_iconst (v := (-1)) hx hb dX6_actKin_30 (by decide) ?_
          exact zm_iret X hH rfl rfl hF dX6_actKin_31
        · have hF := hF.2 cd
          refine lv_iload_n hx hb dX6_actKin_25 rfl (lv_at hl 1 rfl) ?_
          refine lv_iload_n hx hb dX6_actKin_26 rfl (lv_at hl 3 rfl) ?_
          refine lv_icmp_ne (tgt := 32) hx hb dX6_actKin_27 (by decide) (fun cd => ?_) (fun cd => ?_)
          · have hF := hF.1 cd
            refine lv_iload_n hx hb dX6_actKin_32 rfl (lv_at hl 2 rfl) ?_
            refine lv_if_ne (tgt := 72) hx hb dX6_actKin_33 (by decide) (fun cd => ?_) (fun cd => ?_)
            · have hF := hF.1 cd
              refine lv_aload_n hx hb dX6_actKin_72 rfl (lv_at hl 0 rfl) ?_
              refine zm_getf X hH 37 (by decide) rfl q1750 dX6_actKin_73 ?_
              refine lv_iload_n hx hb dX6_actKin_76 rfl (lv_at hl 3 rfl) ?_
              obtain ⟨hI, hF⟩ := hF
              refine zm_iald X hH 37 (by decide) rfl (n := 150) rfl hI dX6_actKin_77 ?_
              refine lv_iload_n hx hb dX6_actKin_78 rfl (lv_at hl 1 rfl) ?_
              refine lv_icmp_eq (tgt := 116) hx hb dX6_actKin_79 (by decide) (fun cd => ?_) (fun cd => ?_)
              · have hF := hF.1 cd
                refine lv_iconst (v := (-1)) hx hb dX6_actKin_116 (by decide) ?_
                exact zm_iret X hH rfl rfl hF dX6_actKin_117
              · have hF := hF.2 cd
                refine lv_aload_n hx hb dX6_actKin_82 rfl (lv_at hl 0 rfl) ?_
                refine zm_getf X hH 38 (by decide) rfl q1751 dX6_actKin_83 ?_
                refine lv_iload_n hx hb dX6_actKin_86 rfl (lv_at hl 3 rfl) ?_
                obtain ⟨hI, hF⟩ := hF
                refine zm_iald X hH 38 (by decide) rfl (n := 150) rfl hI dX6_actKin_87 ?_
                refine lv_iload_n hx hb dX6_actKin_88 rfl (lv_at hl 1 rfl) ?_
                refine lv_icmp_eq (tgt := 116) hx hb dX6_actKin_89 (by decide) (fun cd => ?_) (fun cd => ?_)
                · have hF := hF.1 cd
                  refine lv_iconst (v := (-1)) hx hb dX6_actKin_116 (by decide) ?_
                  exact zm_iret X hH rfl rfl hF dX6_actKin_117
                · have hF := hF.2 cd
                  refine lv_aload_n hx hb dX6_actKin_92 rfl (lv_at hl 0 rfl) ?_
                  refine zm_getf X hH 28 (by decide) rfl q1741 dX6_actKin_93 ?_
                  refine lv_iload_n hx hb dX6_actKin_96 rfl (lv_at hl 1 rfl) ?_
                  obtain ⟨hI, hF⟩ := hF
                  refine zm_iald X hH 28 (by decide) rfl (n := 150) rfl hI dX6_actKin_97 ?_
                  refine lv_aload_n hx hb dX6_actKin_98 rfl (lv_at hl 0 rfl) ?_
                  refine zm_getf X hH 28 (by decide) rfl q1741 dX6_actKin_99 ?_
                  refine lv_iload_n hx hb dX6_actKin_102 rfl (lv_at hl 3 rfl) ?_
                  obtain ⟨hI, hF⟩ := hF
                  refine zm_iald X hH 28 (by decide) rfl (n := 150) rfl hI dX6_actKin_103 ?_
                  refine lv_icmp_ge (tgt := 116) hx hb dX6_actKin_104 (by decide) (fun cd => ?_) (fun cd => ?_)
                  · have hF := hF.1 cd
                    refine lv_iconst (v := (-1)) hx hb dX6_actKin_116 (by decide) ?_
                    exact zm_iret X hH rfl rfl hF dX6_actKin_117
                  · have hF := hF.2 cd
                    refine lv_aload_n hx hb dX6_actKin_107 rfl (lv_at hl 0 rfl) ?_
                    refine zm_getf X hH 38 (by decide) rfl q1751 dX6_actKin_108 ?_
                    refine lv_iload_n hx hb dX6_actKin_111 rfl (lv_at hl 3 rfl) ?_
                    obtain ⟨hI, hF⟩ := hF
                    refine zm_iald X hH 38 (by decide) rfl (n := 150) rfl hI dX6_actKin_112 ?_
                    refine lv_if_lt (tgt := 118) hx hb dX6_actKin_113 (by decide) (fun cd => ?_) (fun cd => ?_)
                    · have hF := hF.1 cd
                      refine lv_aload_n hx hb dX6_actKin_118 rfl (lv_at hl 0 rfl) ?_
                      refine zm_getf X hH 37 (by decide) rfl q1750 dX6_actKin_119 ?_
                      refine lv_iload_n hx hb dX6_actKin_122 rfl (lv_at hl 3 rfl) ?_
                      obtain ⟨hI, hF⟩ := hF
                      refine zm_iald X hH 37 (by decide) rfl (n := 150) rfl hI dX6_actKin_123 ?_
                      refine lv_if_ge (tgt := 137) hx hb dX6_actKin_124 (by decide) (fun cd => ?_) (fun cd => ?_)
                      · have hF := hF.1 cd
                        refine lv_aload_n hx hb dX6_actKin_137 rfl (lv_at hl 0 rfl) ?_
                        refine zm_getf X hH 38 (by decide) rfl q1751 dX6_actKin_138 ?_
                        refine lv_iload_n hx hb dX6_actKin_141 rfl (lv_at hl 3 rfl) ?_
                        refine lv_iload_n hx hb dX6_actKin_142 rfl (lv_at hl 1 rfl) ?_
                        obtain ⟨hI, hF⟩ := hF
                        refine zm_iast X hH 38 (by decide) rfl (n := 150) rfl hI dX6_actKin_143 (fun M7 H locs eM7 hH => ?_)
                        have hF := hF M7 eM7
                        refine lv_iconst (v := 0) hx hb dX6_actKin_144 (by decide) ?_
                        exact zm_iret X hH rfl rfl hF dX6_actKin_145
                      · have hF := hF.2 cd
                        refine lv_aload_n hx hb dX6_actKin_127 rfl (lv_at hl 0 rfl) ?_
                        refine zm_getf X hH 37 (by decide) rfl q1750 dX6_actKin_128 ?_
                        refine lv_iload_n hx hb dX6_actKin_131 rfl (lv_at hl 3 rfl) ?_
                        refine lv_iload_n hx hb dX6_actKin_132 rfl (lv_at hl 1 rfl) ?_
                        obtain ⟨hI, hF⟩ := hF
                        refine zm_iast X hH 37 (by decide) rfl (n := 150) rfl hI dX6_actKin_133 (fun M8 H locs eM8 hH => ?_)
                        have hF := hF M8 eM8
                        refine lv_goto (tgt := 144) hx hb dX6_actKin_134 (by decide) ?_
                        refine lv_iconst (v := 0) hx hb dX6_actKin_144 (by decide) ?_
                        exact zm_iret X hH rfl rfl hF dX6_actKin_145
                    · have hF := hF.2 cd
                      refine lv_iconst (v := (-1)) hx hb dX6_actKin_116 (by decide) ?_
                      exact zm_iret X hH rfl rfl hF dX6_actKin_117
            · have hF := hF.2 cd
              refine lv_aload_n hx hb dX6_actKin_36 rfl (lv_at hl 0 rfl) ?_
              refine zm_getf X hH 36 (by decide) rfl q1749 dX6_actKin_37 ?_
              refine lv_iload_n hx hb dX6_actKin_40 rfl (lv_at hl 1 rfl) ?_
              obtain ⟨hI, hF⟩ := hF
              refine zm_iald X hH 36 (by decide) rfl (n := 150) rfl hI dX6_actKin_41 ?_
              refine lv_if_ge (tgt := 54) hx hb dX6_actKin_42 (by decide) (fun cd => ?_) (fun cd => ?_)
              · have hF := hF.1 cd
                refine lv_iconst (v := (-1)) hx hb dX6_actKin_54 (by decide) ?_
                exact zm_iret X hH rfl rfl hF dX6_actKin_55
              · have hF := hF.2 cd
                refine lv_aload_n hx hb dX6_actKin_45 rfl (lv_at hl 0 rfl) ?_
                refine zm_getf X hH 36 (by decide) rfl q1749 dX6_actKin_46 ?_
                refine lv_iload_n hx hb dX6_actKin_49 rfl (lv_at hl 3 rfl) ?_
                obtain ⟨hI, hF⟩ := hF
                refine zm_iald X hH 36 (by decide) rfl (n := 150) rfl hI dX6_actKin_50 ?_
                refine lv_if_lt (tgt := 56) hx hb dX6_actKin_51 (by decide) (fun cd => ?_) (fun cd => ?_)
                · have hF := hF.1 cd
                  refine lv_aload_n hx hb dX6_actKin_56 rfl (lv_at hl 0 rfl) ?_
                  refine zm_getf X hH 36 (by decide) rfl q1749 dX6_actKin_57 ?_
                  refine lv_iload_n hx hb dX6_actKin_60 rfl (lv_at hl 1 rfl) ?_
                  refine lv_iload_n hx hb dX6_actKin_61 rfl (lv_at hl 3 rfl) ?_
                  obtain ⟨hI, hF⟩ := hF
                  refine zm_iast X hH 36 (by decide) rfl (n := 150) rfl hI dX6_actKin_62 (fun M9 H locs eM9 hH => ?_)
                  have hF := hF M9 eM9
                  refine lv_aload_n hx hb dX6_actKin_63 rfl (lv_at hl 0 rfl) ?_
                  refine zm_getf X hH 36 (by decide) rfl q1749 dX6_actKin_64 ?_
                  refine lv_iload_n hx hb dX6_actKin_67 rfl (lv_at hl 3 rfl) ?_
                  refine lv_iload_n hx hb dX6_actKin_68 rfl (lv_at hl 1 rfl) ?_
                  obtain ⟨hI, hF⟩ := hF
                  refine zm_iast X hH 36 (by decide) rfl (n := 150) rfl hI dX6_actKin_69 (fun M10 H locs eM10 hH => ?_)
                  have hF := hF M10 eM10
                  refine lv_iconst (v := 0) hx hb dX6_actKin_70 (by decide) ?_
                  exact zm_iret X hH rfl rfl hF dX6_actKin_71
                · have hF := hF.2 cd
                  refine lv_iconst (v := (-1)) hx hb dX6_actKin_54 (by decide) ?_
                  exact zm_iret X hH rfl rfl hF dX6_actKin_55
          · have hF := hF.2 cd
            refine lv_iconst (v := (-1)) hx hb dX6_actKin_30 (by decide) ?_
            exact zm_iret X hH rfl rfl hF dX6_actKin_31
set_option maxHeartbeats 4000000 in
set_option maxRecDepth 100000 in
/-- actPaper: what the bytecode asks is what its run needs -/
theorem wm_actPaper (l : Launch) (D : va_G) (cI cZ : ClassId) (ad : Nat → Nat) (o : Nat) (hAd : zm_Ad ad o) (S : Nat → Int32) (M : Nat → Nat → Int32) (v1 : Int32) (v2 : Int32) (Q : Int32 → (Nat → Int32) → (Nat → Nat → Int32) → Prop) (hF : fm_actPaper S M v1 v2 Q) :
    zm_Mi l yX6_actPaper (ws_ yX6_actPaper cX6_actPaper 3 (some .int)) 1 D cI cZ ad o [.int v1, .int v2] S M Q := by
  refine zm_ofi rfl hAd (Nat.le_of_ble_eq_true rfl) ?_
  intro p e s m args below meth c H locs ls X hH hl
  have hx := X.1
  have hb := X.2.1
  have hl : lv_has ls 3 [(0, .ref o), (1, .int v1), (2, .int v2)] := hl
  unfold fm_actPaper at hF
  refine lv_aload_n hx hb dX6_actPaper_0 rfl (lv_at hl 0 rfl) ?_
  refine lv_iload_n hx hb dX6_actPaper_1 rfl (lv_at hl 1 rfl) ?_
  refine zm_calli (As := [.int v1]) (rest := []) X hH (wm_isPerson l D cI cZ ad o X.2.2.2.2.2.2.2.2 S M v1 _ hF) (cwV 1 X.2.2.2.2.1 (lw_V q1941 q1943 qs45 q95 q1944) rfl rfl rfl (by decide +kernel) ⟨Nat.le_of_ble_eq_true rfl, Nat.le_of_ble_eq_true rfl⟩) rfl hl.1 rfl (Nat.le_of_ble_eq_true rfl) dX6_actPaper_2 (Nat.le_refl 0) (Nat.le_refl 0) (fun r3 S1 M2 H locs hF hH => ?_)
  obtain ⟨hF, e9, e8⟩ := hF; subst e9; subst e8
  refine lv_if_eq (tgt := 30) hx hb dX6_actPaper_5 (by decide) (fun cd => ?_) (fun cd => ?_)
  · have hF := hF.1 cd
    refine lv_iconst (v := (-1)) hx hb dX6_actPaper_30 (by decide) ?_
    exact zm_iret X hH rfl rfl hF dX6_actPaper_31
  · have hF := hF.2 cd
    refine lv_aload_n hx hb dX6_actPaper_8 rfl (lv_at hl 0 rfl) ?_
    refine lv_iload_n hx hb dX6_actPaper_9 rfl (lv_at hl 2 rfl) ?_
    refine zm_calli (As := [.int v2]) (rest := []) X hH (wm_isPerson l D cI cZ ad o X.2.2.2.2.2.2.2.2 S M v2 _ hF) (cwV 1 X.2.2.2.2.1 (lw_V q1941 q1943 qs45 q95 q1944) rfl rfl rfl (by decide +kernel) ⟨Nat.le_of_ble_eq_true rfl, Nat.le_of_ble_eq_true rfl⟩) rfl hl.1 rfl (Nat.le_of_ble_eq_true rfl) dX6_actPaper_10 (Nat.le_refl 0) (Nat.le_refl 0) (fun r6 S4 M5 H locs hF hH => ?_)
    obtain ⟨hF, e9, e8⟩ := hF; subst e9; subst e8
    refine lv_if_eq (tgt := 30) hx hb dX6_actPaper_13 (by decide) (fun cd => ?_) (fun cd => ?_)
    · have hF := hF.1 cd
      refine lv_iconst (v := (-1)) hx hb dX6_actPaper_30 (by decide) ?_
      exact zm_iret X hH rfl rfl hF dX6_actPaper_31
    · have hF := hF.2 cd
      refine lv_iload_n hx hb dX6_actPaper_16 rfl (lv_at hl 1 rfl) ?_
      refine lv_iload_n hx hb dX6_actPaper_17 rfl (lv_at hl 2 rfl) ?_
      refine lv_icmp_eq (tgt := 30) hx hb dX6_actPaper_18 (by decide) (fun cd => ?_) (fun cd => ?_)
      · have hF := hF.1 cd
        refine lv_iconst (v := (-1)) hx hb dX6_actPaper_30 (by decide) ?_
        exact zm_iret X hH rfl rfl hF dX6_actPaper_31
      · have hF := hF.2 cd
        refine lv_aload_n hx hb dX6_actPaper_21 rfl (lv_at hl 0 rfl) ?_
        refine zm_getf X hH 29 (by decide) rfl q1742 dX6_actPaper_22 ?_
        refine lv_iload_n hx hb dX6_actPaper_25 rfl (lv_at hl 1 rfl) ?_
        obtain ⟨hI, hF⟩ := hF
        refine zm_zald X hH 29 (by decide) rfl (n := 150) rfl hI dX6_actPaper_26 ?_
        refine lv_if_eq (tgt := 32) hx hb dX6_actPaper_27 (by decide) (fun cd => ?_) (fun cd => ?_)
        · have hF := hF.1 cd
          refine lv_aload_n hx hb dX6_actPaper_32 rfl (lv_at hl 0 rfl) ?_
          refine zm_getf X hH 39 (by decide) rfl q1752 dX6_actPaper_33 ?_
          refine lv_iload_n hx hb dX6_actPaper_36 rfl (lv_at hl 1 rfl) ?_
          refine lv_iload_n hx hb dX6_actPaper_37 rfl (lv_at hl 2 rfl) ?_
          obtain ⟨hI, hF⟩ := hF
          refine zm_iast X hH 39 (by decide) rfl (n := 150) rfl hI dX6_actPaper_38 (fun M7 H locs eM7 hH => ?_)
          have hF := hF M7 eM7
          refine lv_iconst (v := 0) hx hb dX6_actPaper_39 (by decide) ?_
          exact zm_iret X hH rfl rfl hF dX6_actPaper_40
        · have hF := hF.2 cd
          refine lv_iconst (v := (-1)) hx hb dX6_actPaper_30 (by decide) ?_
          exact zm_iret X hH rfl rfl hF dX6_actPaper_31
set_option maxHeartbeats 4000000 in
set_option maxRecDepth 100000 in
theorem wm_isParent_20 {p : Program} {l : Launch} {e : Env} {s : State} {m : MethodId} {args : Array Value} {below : List Frame} {meth : Method} {c : Code} {D : va_G} {cI cZ : ClassId} {ad : Nat → Nat} {o : Nat} {Q : Int32 → Prop} {S0 : Nat → Int32} {M0 : Nat → Nat → Int32} (X : zm_Cx p s m args meth c cX6_isParent 3 (some .boolean) D cI cZ ad o) :
    ∀ (S : Nat → Int32) (M : Nat → Nat → Int32), fm_isParent_20 Q S M → ∀ (H : Heap) (locs : List Loc) (ls : Array Slot), S0 = S → M0 = M → lv_has ls 3 [(0, .ref o)] → zm_H D cI cZ ad o S M s H locs → W p l e (zm_R 0) s m args below meth c H locs 0 0 (MQ below (zm_QS (fun r S1 M1 => Q r ∧ S0 = S1 ∧ M0 = M1) D cI cZ ad o) args s 0 0 (zm_A ad o)) (F0 m 20 ls []) := by
  have hx := X.1
  have hb := X.2.1
  intro S M hF
  intro H locs ls eS eM hl hH
  unfold fm_isParent_20 at hF
  refine lv_iconst (v := 1) hx hb dX6_isParent_20 (by decide) ?_
  refine lv_goto (tgt := 25) hx hb dX6_isParent_21 (by decide) ?_
  exact zm_iret X hH rfl rfl ⟨hF, eS, eM⟩ dX6_isParent_25
set_option maxHeartbeats 4000000 in
set_option maxRecDepth 100000 in
/-- isParent: what the bytecode asks is what its run needs -/
theorem wm_isParent (l : Launch) (D : va_G) (cI cZ : ClassId) (ad : Nat → Nat) (o : Nat) (hAd : zm_Ad ad o) (S : Nat → Int32) (M : Nat → Nat → Int32) (v1 : Int32) (v2 : Int32) (Q : Int32 → Prop) (hF : fm_isParent S M v1 v2 Q) :
    zm_Mi l yX6_isParent (ws_ yX6_isParent cX6_isParent 3 (some .boolean)) 0 D cI cZ ad o [.int v1, .int v2] S M (fun r S1 M1 => Q r ∧ S = S1 ∧ M = M1) := by
  refine zm_ofi rfl hAd (Nat.le_of_ble_eq_true rfl) ?_
  intro p e s m args below meth c H locs ls X hH hl
  have hx := X.1
  have hb := X.2.1
  have hl : lv_has ls 3 [(0, .ref o), (1, .int v1), (2, .int v2)] := hl
  unfold fm_isParent at hF
  refine lv_aload_n hx hb dX6_isParent_0 rfl (lv_at hl 0 rfl) ?_
  refine zm_getf X hH 37 (by decide) rfl q1750 dX6_isParent_1 ?_
  refine lv_iload_n hx hb dX6_isParent_4 rfl (lv_at hl 2 rfl) ?_
  obtain ⟨hI, hF⟩ := hF
  refine zm_iald X hH 37 (by decide) rfl (n := 150) rfl hI dX6_isParent_5 ?_
  refine lv_iload_n hx hb dX6_isParent_6 rfl (lv_at hl 1 rfl) ?_
  refine lv_icmp_eq (tgt := 20) hx hb dX6_isParent_7 (by decide) (fun cd => ?_) (fun cd => ?_)
  · have hF := hF.1 cd
    exact wm_isParent_20 X S M hF _ _ _ rfl rfl (lv_sub hl [0] rfl) hH
  · have hF := hF.2 cd
    refine lv_aload_n hx hb dX6_isParent_10 rfl (lv_at hl 0 rfl) ?_
    refine zm_getf X hH 38 (by decide) rfl q1751 dX6_isParent_11 ?_
    refine lv_iload_n hx hb dX6_isParent_14 rfl (lv_at hl 2 rfl) ?_
    obtain ⟨hI, hF⟩ := hF
    refine zm_iald X hH 38 (by decide) rfl (n := 150) rfl hI dX6_isParent_15 ?_
    refine lv_iload_n hx hb dX6_isParent_16 rfl (lv_at hl 1 rfl) ?_
    refine lv_icmp_ne (tgt := 24) hx hb dX6_isParent_17 (by decide) (fun cd => ?_) (fun cd => ?_)
    · have hF := hF.1 cd
      refine lv_iconst (v := 0) hx hb dX6_isParent_24 (by decide) ?_
      exact zm_iret X hH rfl rfl ⟨hF, rfl, rfl⟩ dX6_isParent_25
    · have hF := hF.2 cd
      exact wm_isParent_20 X S M hF _ _ _ rfl rfl (lv_sub hl [0] rfl) hH
set_option maxHeartbeats 4000000 in
set_option maxRecDepth 100000 in
/-- actRight: what the bytecode asks is what its run needs -/
theorem wm_actRight (l : Launch) (D : va_G) (cI cZ : ClassId) (ad : Nat → Nat) (o : Nat) (hAd : zm_Ad ad o) (S : Nat → Int32) (M : Nat → Nat → Int32) (v1 : Int32) (v2 : Int32) (v3 : Int32) (Q : Int32 → (Nat → Int32) → (Nat → Nat → Int32) → Prop) (hF : fm_actRight S M v1 v2 v3 Q) :
    zm_Mi l yX6_actRight (ws_ yX6_actRight cX6_actRight 4 (some .int)) 1 D cI cZ ad o [.int v1, .int v2, .int v3] S M Q := by
  refine zm_ofi rfl hAd (Nat.le_of_ble_eq_true rfl) ?_
  intro p e s m args below meth c H locs ls X hH hl
  have hx := X.1
  have hb := X.2.1
  have hl : lv_has ls 4 [(0, .ref o), (1, .int v1), (2, .int v2), (3, .int v3)] := hl
  unfold fm_actRight at hF
  refine lv_aload_n hx hb dX6_actRight_0 rfl (lv_at hl 0 rfl) ?_
  refine lv_iload_n hx hb dX6_actRight_1 rfl (lv_at hl 1 rfl) ?_
  refine zm_calli (As := [.int v1]) (rest := []) X hH (wm_isGrave l D cI cZ ad o X.2.2.2.2.2.2.2.2 S M v1 _ hF) (cwV 1 X.2.2.2.2.1 (lw_V q1953 q1955 qs48 q95 q1956) rfl rfl rfl (by decide +kernel) ⟨Nat.le_of_ble_eq_true rfl, Nat.le_of_ble_eq_true rfl⟩) rfl hl.1 rfl (Nat.le_of_ble_eq_true rfl) dX6_actRight_2 (Nat.le_refl 0) (Nat.le_refl 0) (fun r3 S1 M2 H locs hF hH => ?_)
  obtain ⟨hF, e9, e8⟩ := hF; subst e9; subst e8
  refine lv_if_eq (tgt := 27) hx hb dX6_actRight_5 (by decide) (fun cd => ?_) (fun cd => ?_)
  · have hF := hF.1 cd
    refine lv_iconst (v := (-1)) hx hb dX6_actRight_27 (by decide) ?_
    exact zm_iret X hH rfl rfl hF dX6_actRight_28
  · have hF := hF.2 cd
    refine lv_aload_n hx hb dX6_actRight_8 rfl (lv_at hl 0 rfl) ?_
    refine lv_iload_n hx hb dX6_actRight_9 rfl (lv_at hl 2 rfl) ?_
    refine zm_calli (As := [.int v2]) (rest := []) X hH (wm_isPerson l D cI cZ ad o X.2.2.2.2.2.2.2.2 S M v2 _ hF) (cwV 1 X.2.2.2.2.1 (lw_V q1941 q1943 qs45 q95 q1944) rfl rfl rfl (by decide +kernel) ⟨Nat.le_of_ble_eq_true rfl, Nat.le_of_ble_eq_true rfl⟩) rfl hl.1 rfl (Nat.le_of_ble_eq_true rfl) dX6_actRight_10 (Nat.le_refl 0) (Nat.le_refl 0) (fun r6 S4 M5 H locs hF hH => ?_)
    obtain ⟨hF, e9, e8⟩ := hF; subst e9; subst e8
    refine lv_if_eq (tgt := 27) hx hb dX6_actRight_13 (by decide) (fun cd => ?_) (fun cd => ?_)
    · have hF := hF.1 cd
      refine lv_iconst (v := (-1)) hx hb dX6_actRight_27 (by decide) ?_
      exact zm_iret X hH rfl rfl hF dX6_actRight_28
    · have hF := hF.2 cd
      refine lv_iload_n hx hb dX6_actRight_16 rfl (lv_at hl 3 rfl) ?_
      refine lv_iconst (v := 1) hx hb dX6_actRight_17 (by decide) ?_
      refine lv_icmp_lt (tgt := 27) hx hb dX6_actRight_18 (by decide) (fun cd => ?_) (fun cd => ?_)
      · have hF := hF.1 cd
        refine lv_iconst (v := (-1)) hx hb dX6_actRight_27 (by decide) ?_
        exact zm_iret X hH rfl rfl hF dX6_actRight_28
      · have hF := hF.2 cd
        refine lv_iload_n hx hb dX6_actRight_21 rfl (lv_at hl 3 rfl) ?_
        refine lv_bipush (v := 20) hx hb dX6_actRight_22 (by decide) ?_
        refine lv_icmp_le (tgt := 29) hx hb dX6_actRight_24 (by decide) (fun cd => ?_) (fun cd => ?_)
        · have hF := hF.1 cd
          refine lv_aload_n hx hb dX6_actRight_29 rfl (lv_at hl 0 rfl) ?_
          refine zm_getf X hH 11 (by decide) rfl q1724 dX6_actRight_30 ?_
          refine lv_iload_n hx hb dX6_actRight_33 rfl (lv_at hl 1 rfl) ?_
          obtain ⟨hI, hF⟩ := hF
          refine zm_iald X hH 11 (by decide) rfl (n := 150) rfl hI dX6_actRight_34 ?_
          refine lv_if_ne (tgt := 48) hx hb dX6_actRight_35 (by decide) (fun cd => ?_) (fun cd => ?_)
          · have hF := hF.1 cd
            refine lv_bipush (v := (-2)) hx hb dX6_actRight_48 (by decide) ?_
            exact zm_iret X hH rfl rfl hF dX6_actRight_50
          · have hF := hF.2 cd
            refine lv_aload_n hx hb dX6_actRight_38 rfl (lv_at hl 0 rfl) ?_
            refine zm_getf X hH 10 (by decide) rfl q1723 dX6_actRight_39 ?_
            refine lv_iload_n hx hb dX6_actRight_42 rfl (lv_at hl 1 rfl) ?_
            obtain ⟨hI, hF⟩ := hF
            refine zm_iald X hH 10 (by decide) rfl (n := 150) rfl hI dX6_actRight_43 ?_
            refine lv_iconst (v := 5) hx hb dX6_actRight_44 (by decide) ?_
            refine lv_icmp_ne (tgt := 51) hx hb dX6_actRight_45 (by decide) (fun cd => ?_) (fun cd => ?_)
            · have hF := hF.1 cd
              refine lv_aload_n hx hb dX6_actRight_51 rfl (lv_at hl 0 rfl) ?_
              refine zm_getf X hH 29 (by decide) rfl q1742 dX6_actRight_52 ?_
              refine lv_iload_n hx hb dX6_actRight_55 rfl (lv_at hl 2 rfl) ?_
              obtain ⟨hI, hF⟩ := hF
              refine zm_zald X hH 29 (by decide) rfl (n := 150) rfl hI dX6_actRight_56 ?_
              refine lv_if_eq (tgt := 63) hx hb dX6_actRight_57 (by decide) (fun cd => ?_) (fun cd => ?_)
              · have hF := hF.1 cd
                refine lv_aload_n hx hb dX6_actRight_63 rfl (lv_at hl 0 rfl) ?_
                refine zm_getf X hH 11 (by decide) rfl q1724 dX6_actRight_64 ?_
                refine lv_iload_n hx hb dX6_actRight_67 rfl (lv_at hl 1 rfl) ?_
                refine lv_iconst (v := 1) hx hb dX6_actRight_68 (by decide) ?_
                obtain ⟨hI, hF⟩ := hF
                refine zm_iast X hH 11 (by decide) rfl (n := 150) rfl hI dX6_actRight_69 (fun M7 H locs eM7 hH => ?_)
                have hF := hF M7 eM7
                refine lv_aload_n hx hb dX6_actRight_70 rfl (lv_at hl 0 rfl) ?_
                refine zm_getf X hH 12 (by decide) rfl q1725 dX6_actRight_71 ?_
                refine lv_iload_n hx hb dX6_actRight_74 rfl (lv_at hl 1 rfl) ?_
                refine lv_iload_n hx hb dX6_actRight_75 rfl (lv_at hl 2 rfl) ?_
                obtain ⟨hI, hF⟩ := hF
                refine zm_iast X hH 12 (by decide) rfl (n := 150) rfl hI dX6_actRight_76 (fun M8 H locs eM8 hH => ?_)
                have hF := hF M8 eM8
                refine lv_aload_n hx hb dX6_actRight_77 rfl (lv_at hl 0 rfl) ?_
                refine zm_getf X hH 13 (by decide) rfl q1726 dX6_actRight_78 ?_
                refine lv_iload_n hx hb dX6_actRight_81 rfl (lv_at hl 1 rfl) ?_
                refine lv_aload_n hx hb dX6_actRight_82 rfl (lv_at hl 0 rfl) ?_
                refine zm_getf X hH 1 (by decide) rfl q1714 dX6_actRight_83 ?_
                refine lv_sipush (v := 365) hx hb dX6_actRight_86 (by decide) ?_
                refine lv_iload_n hx hb dX6_actRight_89 rfl (lv_at hl 3 rfl) ?_
                refine lv_imul hx hb dX6_actRight_90 ?_
                refine lv_iadd hx hb dX6_actRight_91 ?_
                obtain ⟨hI, hF⟩ := hF
                refine zm_iast X hH 13 (by decide) rfl (n := 150) rfl hI dX6_actRight_92 (fun M9 H locs eM9 hH => ?_)
                have hF := hF M9 eM9
                refine lv_aload_n hx hb dX6_actRight_93 rfl (lv_at hl 0 rfl) ?_
                refine lv_dup hx hb dX6_actRight_94 rfl ?_
                refine zm_getf X hH 44 (by decide) rfl q1757 dX6_actRight_95 ?_
                refine lv_iload_n hx hb dX6_actRight_98 rfl (lv_at hl 3 rfl) ?_
                refine lv_aload_n hx hb dX6_actRight_99 rfl (lv_at hl 0 rfl) ?_
                refine lv_iload_n hx hb dX6_actRight_100 rfl (lv_at hl 1 rfl) ?_
                refine zm_calli (As := [.int v1]) (rest := [.int v3, .int (S 44), .ref o]) X hH (wm_yearly l D cI cZ ad o X.2.2.2.2.2.2.2.2 S M9 v1 _ hF) (cwV 1 X.2.2.2.2.1 (lw_V q1957 q1959 qs49 q95 q1960) rfl rfl rfl (by decide +kernel) ⟨Nat.le_of_ble_eq_true rfl, Nat.le_of_ble_eq_true rfl⟩) rfl hl.1 rfl (Nat.le_of_ble_eq_true rfl) dX6_actRight_101 (Nat.le_refl 0) (Nat.le_refl 0) (fun r12 S10 M11 H locs hF hH => ?_)
                obtain ⟨hF, e9, e8⟩ := hF; subst e9; subst e8
                refine lv_imul hx hb dX6_actRight_104 ?_
                refine lv_iadd hx hb dX6_actRight_105 ?_
                refine zm_puti X hH 44 (by decide) rfl rfl (by decide +kernel) q1757 dX6_actRight_106 (fun S13 H locs eS13 hH => ?_)
                have hF := hF S13 eS13
                refine lv_iload_n hx hb dX6_actRight_109 rfl (lv_at hl 3 rfl) ?_
                refine lv_aload_n hx hb dX6_actRight_110 rfl (lv_at hl 0 rfl) ?_
                refine lv_iload_n hx hb dX6_actRight_111 rfl (lv_at hl 1 rfl) ?_
                refine zm_calli (As := [.int v1]) (rest := [.int v3]) X hH (wm_yearly l D cI cZ ad o X.2.2.2.2.2.2.2.2 S13 M9 v1 _ hF) (cwV 1 X.2.2.2.2.1 (lw_V q1957 q1959 qs49 q95 q1960) rfl rfl rfl (by decide +kernel) ⟨Nat.le_of_ble_eq_true rfl, Nat.le_of_ble_eq_true rfl⟩) rfl hl.1 rfl (Nat.le_of_ble_eq_true rfl) dX6_actRight_112 (Nat.le_refl 0) (Nat.le_refl 0) (fun r16 S14 M15 H locs hF hH => ?_)
                obtain ⟨hF, e9, e8⟩ := hF; subst e9; subst e8
                refine lv_imul hx hb dX6_actRight_115 ?_
                exact zm_iret X hH rfl rfl hF dX6_actRight_116
              · have hF := hF.2 cd
                refine lv_bipush (v := (-3)) hx hb dX6_actRight_60 (by decide) ?_
                exact zm_iret X hH rfl rfl hF dX6_actRight_62
            · have hF := hF.2 cd
              refine lv_bipush (v := (-2)) hx hb dX6_actRight_48 (by decide) ?_
              exact zm_iret X hH rfl rfl hF dX6_actRight_50
        · have hF := hF.2 cd
          refine lv_iconst (v := (-1)) hx hb dX6_actRight_27 (by decide) ?_
          exact zm_iret X hH rfl rfl hF dX6_actRight_28
set_option maxHeartbeats 4000000 in
set_option maxRecDepth 100000 in
/-- actLonger: what the bytecode asks is what its run needs -/
theorem wm_actLonger (l : Launch) (D : va_G) (cI cZ : ClassId) (ad : Nat → Nat) (o : Nat) (hAd : zm_Ad ad o) (S : Nat → Int32) (M : Nat → Nat → Int32) (v1 : Int32) (v2 : Int32) (Q : Int32 → (Nat → Int32) → (Nat → Nat → Int32) → Prop) (hF : fm_actLonger S M v1 v2 Q) :
    zm_Mi l yX6_actLonger (ws_ yX6_actLonger cX6_actLonger 3 (some .int)) 1 D cI cZ ad o [.int v1, .int v2] S M Q := by
  refine zm_ofi rfl hAd (Nat.le_of_ble_eq_true rfl) ?_
  intro p e s m args below meth c H locs ls X hH hl
  have hx := X.1
  have hb := X.2.1
  have hl : lv_has ls 3 [(0, .ref o), (1, .int v1), (2, .int v2)] := hl
  unfold fm_actLonger at hF
  refine lv_aload_n hx hb dX6_actLonger_0 rfl (lv_at hl 0 rfl) ?_
  refine lv_iload_n hx hb dX6_actLonger_1 rfl (lv_at hl 1 rfl) ?_
  refine zm_calli (As := [.int v1]) (rest := []) X hH (wm_isGrave l D cI cZ ad o X.2.2.2.2.2.2.2.2 S M v1 _ hF) (cwV 1 X.2.2.2.2.1 (lw_V q1953 q1955 qs48 q95 q1956) rfl rfl rfl (by decide +kernel) ⟨Nat.le_of_ble_eq_true rfl, Nat.le_of_ble_eq_true rfl⟩) rfl hl.1 rfl (Nat.le_of_ble_eq_true rfl) dX6_actLonger_2 (Nat.le_refl 0) (Nat.le_refl 0) (fun r3 S1 M2 H locs hF hH => ?_)
  obtain ⟨hF, e9, e8⟩ := hF; subst e9; subst e8
  refine lv_if_eq (tgt := 19) hx hb dX6_actLonger_5 (by decide) (fun cd => ?_) (fun cd => ?_)
  · have hF := hF.1 cd
    refine lv_iconst (v := (-1)) hx hb dX6_actLonger_19 (by decide) ?_
    exact zm_iret X hH rfl rfl hF dX6_actLonger_20
  · have hF := hF.2 cd
    refine lv_iload_n hx hb dX6_actLonger_8 rfl (lv_at hl 2 rfl) ?_
    refine lv_iconst (v := 1) hx hb dX6_actLonger_9 (by decide) ?_
    refine lv_icmp_lt (tgt := 19) hx hb dX6_actLonger_10 (by decide) (fun cd => ?_) (fun cd => ?_)
    · have hF := hF.1 cd
      refine lv_iconst (v := (-1)) hx hb dX6_actLonger_19 (by decide) ?_
      exact zm_iret X hH rfl rfl hF dX6_actLonger_20
    · have hF := hF.2 cd
      refine lv_iload_n hx hb dX6_actLonger_13 rfl (lv_at hl 2 rfl) ?_
      refine lv_bipush (v := 20) hx hb dX6_actLonger_14 (by decide) ?_
      refine lv_icmp_le (tgt := 21) hx hb dX6_actLonger_16 (by decide) (fun cd => ?_) (fun cd => ?_)
      · have hF := hF.1 cd
        refine lv_aload_n hx hb dX6_actLonger_21 rfl (lv_at hl 0 rfl) ?_
        refine zm_getf X hH 11 (by decide) rfl q1724 dX6_actLonger_22 ?_
        refine lv_iload_n hx hb dX6_actLonger_25 rfl (lv_at hl 1 rfl) ?_
        obtain ⟨hI, hF⟩ := hF
        refine zm_iald X hH 11 (by decide) rfl (n := 150) rfl hI dX6_actLonger_26 ?_
        refine lv_iconst (v := 1) hx hb dX6_actLonger_27 (by decide) ?_
        refine lv_icmp_eq (tgt := 34) hx hb dX6_actLonger_28 (by decide) (fun cd => ?_) (fun cd => ?_)
        · have hF := hF.1 cd
          refine lv_aload_n hx hb dX6_actLonger_34 rfl (lv_at hl 0 rfl) ?_
          refine zm_getf X hH 13 (by decide) rfl q1726 dX6_actLonger_35 ?_
          refine lv_iload_n hx hb dX6_actLonger_38 rfl (lv_at hl 1 rfl) ?_
          refine lv_dup2_11 hx hb dX6_actLonger_39 rfl rfl ?_
          obtain ⟨hI, hF⟩ := hF
          refine zm_iald X hH 13 (by decide) rfl (n := 150) rfl hI dX6_actLonger_40 ?_
          refine lv_sipush (v := 365) hx hb dX6_actLonger_41 (by decide) ?_
          refine lv_iload_n hx hb dX6_actLonger_44 rfl (lv_at hl 2 rfl) ?_
          refine lv_imul hx hb dX6_actLonger_45 ?_
          refine lv_iadd hx hb dX6_actLonger_46 ?_
          obtain ⟨hI, hF⟩ := hF
          refine zm_iast X hH 13 (by decide) rfl (n := 150) rfl hI dX6_actLonger_47 (fun M4 H locs eM4 hH => ?_)
          have hF := hF M4 eM4
          refine lv_aload_n hx hb dX6_actLonger_48 rfl (lv_at hl 0 rfl) ?_
          refine lv_dup hx hb dX6_actLonger_49 rfl ?_
          refine zm_getf X hH 44 (by decide) rfl q1757 dX6_actLonger_50 ?_
          refine lv_iload_n hx hb dX6_actLonger_53 rfl (lv_at hl 2 rfl) ?_
          refine lv_aload_n hx hb dX6_actLonger_54 rfl (lv_at hl 0 rfl) ?_
          refine lv_iload_n hx hb dX6_actLonger_55 rfl (lv_at hl 1 rfl) ?_
          refine zm_calli (As := [.int v1]) (rest := [.int v2, .int (S 44), .ref o]) X hH (wm_yearly l D cI cZ ad o X.2.2.2.2.2.2.2.2 S M4 v1 _ hF) (cwV 1 X.2.2.2.2.1 (lw_V q1957 q1959 qs49 q95 q1960) rfl rfl rfl (by decide +kernel) ⟨Nat.le_of_ble_eq_true rfl, Nat.le_of_ble_eq_true rfl⟩) rfl hl.1 rfl (Nat.le_of_ble_eq_true rfl) dX6_actLonger_56 (Nat.le_refl 0) (Nat.le_refl 0) (fun r7 S5 M6 H locs hF hH => ?_)
          obtain ⟨hF, e9, e8⟩ := hF; subst e9; subst e8
          refine lv_imul hx hb dX6_actLonger_59 ?_
          refine lv_iadd hx hb dX6_actLonger_60 ?_
          refine zm_puti X hH 44 (by decide) rfl rfl (by decide +kernel) q1757 dX6_actLonger_61 (fun S8 H locs eS8 hH => ?_)
          have hF := hF S8 eS8
          refine lv_iload_n hx hb dX6_actLonger_64 rfl (lv_at hl 2 rfl) ?_
          refine lv_aload_n hx hb dX6_actLonger_65 rfl (lv_at hl 0 rfl) ?_
          refine lv_iload_n hx hb dX6_actLonger_66 rfl (lv_at hl 1 rfl) ?_
          refine zm_calli (As := [.int v1]) (rest := [.int v2]) X hH (wm_yearly l D cI cZ ad o X.2.2.2.2.2.2.2.2 S8 M4 v1 _ hF) (cwV 1 X.2.2.2.2.1 (lw_V q1957 q1959 qs49 q95 q1960) rfl rfl rfl (by decide +kernel) ⟨Nat.le_of_ble_eq_true rfl, Nat.le_of_ble_eq_true rfl⟩) rfl hl.1 rfl (Nat.le_of_ble_eq_true rfl) dX6_actLonger_67 (Nat.le_refl 0) (Nat.le_refl 0) (fun r11 S9 M10 H locs hF hH => ?_)
          obtain ⟨hF, e9, e8⟩ := hF; subst e9; subst e8
          refine lv_imul hx hb dX6_actLonger_70 ?_
          exact zm_iret X hH rfl rfl hF dX6_actLonger_71
        · have hF := hF.2 cd
          refine lv_bipush (v := (-2)) hx hb dX6_actLonger_31 (by decide) ?_
          exact zm_iret X hH rfl rfl hF dX6_actLonger_33
      · have hF := hF.2 cd
        refine lv_iconst (v := (-1)) hx hb dX6_actLonger_19 (by decide) ?_
        exact zm_iret X hH rfl rfl hF dX6_actLonger_20
set_option maxHeartbeats 4000000 in
set_option maxRecDepth 100000 in
theorem wm_actAgree_61 {p : Program} {l : Launch} {e : Env} {s : State} {m : MethodId} {args : Array Value} {below : List Frame} {meth : Method} {c : Code} {D : va_G} {cI cZ : ClassId} {ad : Nat → Nat} {o : Nat} {Q : Int32 → (Nat → Int32) → (Nat → Nat → Int32) → Prop} (X : zm_Cx p s m args meth c cX6_actAgree 4 (some .int) D cI cZ ad o) :
    ∀ (S : Nat → Int32) (M : Nat → Nat → Int32) (t1 : Int32) (t2 : Int32), fm_actAgree_61 Q S M t1 t2 → ∀ (H : Heap) (locs : List Loc) (ls : Array Slot), lv_has ls 4 [(0, .ref o)] → zm_H D cI cZ ad o S M s H locs → W p l e (zm_R 1) s m args below meth c H locs 0 0 (MQ below (zm_QS Q D cI cZ ad o) args s 0 0 (zm_A ad o)) (F0 m 61 ls [.int t2, .int t1, .ref (ad 20)]) := by
  have hx := X.1
  have hb := X.2.1
  intro S M t1 t2 hF
  intro H locs ls hl hH
  unfold fm_actAgree_61 at hF
  obtain ⟨hI, hF⟩ := hF
  refine zm_zast X hH 20 (by decide) rfl (n := 22500) rfl hI dX6_actAgree_61 (fun M1 H locs eM1 hH => ?_)
  have hF := hF M1 eM1
  refine lv_iconst (v := 0) hx hb dX6_actAgree_62 (by decide) ?_
  exact zm_iret X hH rfl rfl hF dX6_actAgree_63
set_option maxHeartbeats 4000000 in
set_option maxRecDepth 100000 in
/-- actAgree: what the bytecode asks is what its run needs -/
theorem wm_actAgree (l : Launch) (D : va_G) (cI cZ : ClassId) (ad : Nat → Nat) (o : Nat) (hAd : zm_Ad ad o) (S : Nat → Int32) (M : Nat → Nat → Int32) (v1 : Int32) (v2 : Int32) (v3 : Int32) (Q : Int32 → (Nat → Int32) → (Nat → Nat → Int32) → Prop) (hF : fm_actAgree S M v1 v2 v3 Q) :
    zm_Mi l yX6_actAgree (ws_ yX6_actAgree cX6_actAgree 4 (some .int)) 1 D cI cZ ad o [.int v1, .int v2, .int v3] S M Q := by
  refine zm_ofi rfl hAd (Nat.le_of_ble_eq_true rfl) ?_
  intro p e s m args below meth c H locs ls X hH hl
  have hx := X.1
  have hb := X.2.1
  have hl : lv_has ls 4 [(0, .ref o), (1, .int v1), (2, .int v2), (3, .int v3)] := hl
  unfold fm_actAgree at hF
  refine lv_aload_n hx hb dX6_actAgree_0 rfl (lv_at hl 0 rfl) ?_
  refine lv_iload_n hx hb dX6_actAgree_1 rfl (lv_at hl 1 rfl) ?_
  refine zm_calli (As := [.int v1]) (rest := []) X hH (wm_isGrave l D cI cZ ad o X.2.2.2.2.2.2.2.2 S M v1 _ hF) (cwV 1 X.2.2.2.2.1 (lw_V q1953 q1955 qs48 q95 q1956) rfl rfl rfl (by decide +kernel) ⟨Nat.le_of_ble_eq_true rfl, Nat.le_of_ble_eq_true rfl⟩) rfl hl.1 rfl (Nat.le_of_ble_eq_true rfl) dX6_actAgree_2 (Nat.le_refl 0) (Nat.le_refl 0) (fun r3 S1 M2 H locs hF hH => ?_)
  obtain ⟨hF, e9, e8⟩ := hF; subst e9; subst e8
  refine lv_if_eq (tgt := 25) hx hb dX6_actAgree_5 (by decide) (fun cd => ?_) (fun cd => ?_)
  · have hF := hF.1 cd
    refine lv_iconst (v := (-1)) hx hb dX6_actAgree_25 (by decide) ?_
    exact zm_iret X hH rfl rfl hF dX6_actAgree_26
  · have hF := hF.2 cd
    refine lv_aload_n hx hb dX6_actAgree_8 rfl (lv_at hl 0 rfl) ?_
    refine lv_iload_n hx hb dX6_actAgree_9 rfl (lv_at hl 2 rfl) ?_
    refine zm_calli (As := [.int v2]) (rest := []) X hH (wm_isPerson l D cI cZ ad o X.2.2.2.2.2.2.2.2 S M v2 _ hF) (cwV 1 X.2.2.2.2.1 (lw_V q1941 q1943 qs45 q95 q1944) rfl rfl rfl (by decide +kernel) ⟨Nat.le_of_ble_eq_true rfl, Nat.le_of_ble_eq_true rfl⟩) rfl hl.1 rfl (Nat.le_of_ble_eq_true rfl) dX6_actAgree_10 (Nat.le_refl 0) (Nat.le_refl 0) (fun r6 S4 M5 H locs hF hH => ?_)
    obtain ⟨hF, e9, e8⟩ := hF; subst e9; subst e8
    refine lv_if_eq (tgt := 25) hx hb dX6_actAgree_13 (by decide) (fun cd => ?_) (fun cd => ?_)
    · have hF := hF.1 cd
      refine lv_iconst (v := (-1)) hx hb dX6_actAgree_25 (by decide) ?_
      exact zm_iret X hH rfl rfl hF dX6_actAgree_26
    · have hF := hF.2 cd
      refine lv_iload_n hx hb dX6_actAgree_16 rfl (lv_at hl 3 rfl) ?_
      refine lv_if_lt (tgt := 25) hx hb dX6_actAgree_17 (by decide) (fun cd => ?_) (fun cd => ?_)
      · have hF := hF.1 cd
        refine lv_iconst (v := (-1)) hx hb dX6_actAgree_25 (by decide) ?_
        exact zm_iret X hH rfl rfl hF dX6_actAgree_26
      · have hF := hF.2 cd
        refine lv_iload_n hx hb dX6_actAgree_20 rfl (lv_at hl 3 rfl) ?_
        refine lv_iconst (v := 1) hx hb dX6_actAgree_21 (by decide) ?_
        refine lv_icmp_le (tgt := 27) hx hb dX6_actAgree_22 (by decide) (fun cd => ?_) (fun cd => ?_)
        · have hF := hF.1 cd
          refine lv_aload_n hx hb dX6_actAgree_27 rfl (lv_at hl 0 rfl) ?_
          refine zm_getf X hH 11 (by decide) rfl q1724 dX6_actAgree_28 ?_
          refine lv_iload_n hx hb dX6_actAgree_31 rfl (lv_at hl 1 rfl) ?_
          obtain ⟨hI, hF⟩ := hF
          refine zm_iald X hH 11 (by decide) rfl (n := 150) rfl hI dX6_actAgree_32 ?_
          refine lv_iconst (v := 1) hx hb dX6_actAgree_33 (by decide) ?_
          refine lv_icmp_eq (tgt := 40) hx hb dX6_actAgree_34 (by decide) (fun cd => ?_) (fun cd => ?_)
          · have hF := hF.1 cd
            refine lv_aload_n hx hb dX6_actAgree_40 rfl (lv_at hl 0 rfl) ?_
            refine zm_getf X hH 20 (by decide) rfl q1733 dX6_actAgree_41 ?_
            refine lv_sipush (v := 150) hx hb dX6_actAgree_44 (by decide) ?_
            refine lv_iload_n hx hb dX6_actAgree_47 rfl (lv_at hl 1 rfl) ?_
            refine lv_imul hx hb dX6_actAgree_48 ?_
            refine lv_iload_n hx hb dX6_actAgree_49 rfl (lv_at hl 2 rfl) ?_
            refine lv_iadd hx hb dX6_actAgree_50 ?_
            refine lv_iload_n hx hb dX6_actAgree_51 rfl (lv_at hl 3 rfl) ?_
            refine lv_iconst (v := 1) hx hb dX6_actAgree_52 (by decide) ?_
            refine lv_icmp_ne (tgt := 60) hx hb dX6_actAgree_53 (by decide) (fun cd => ?_) (fun cd => ?_)
            · have hF := hF.1 cd
              refine lv_iconst (v := 0) hx hb dX6_actAgree_60 (by decide) ?_
              exact wm_actAgree_61 X S M ((150 * v1) + v2) 0 hF _ _ _ (lv_sub hl [0] rfl) hH
            · have hF := hF.2 cd
              refine lv_iconst (v := 1) hx hb dX6_actAgree_56 (by decide) ?_
              refine lv_goto (tgt := 61) hx hb dX6_actAgree_57 (by decide) ?_
              exact wm_actAgree_61 X S M ((150 * v1) + v2) 1 hF _ _ _ (lv_sub hl [0] rfl) hH
          · have hF := hF.2 cd
            refine lv_bipush (v := (-2)) hx hb dX6_actAgree_37 (by decide) ?_
            exact zm_iret X hH rfl rfl hF dX6_actAgree_39
        · have hF := hF.2 cd
          refine lv_iconst (v := (-1)) hx hb dX6_actAgree_25 (by decide) ?_
          exact zm_iret X hH rfl rfl hF dX6_actAgree_26
set_option maxHeartbeats 4000000 in
set_option maxRecDepth 100000 in
theorem wm_names_16 {p : Program} {l : Launch} {e : Env} {s : State} {m : MethodId} {args : Array Value} {below : List Frame} {meth : Method} {c : Code} {D : va_G} {cI cZ : ClassId} {ad : Nat → Nat} {o : Nat} {Q : (Nat → Int32) → (Nat → Nat → Int32) → Prop} (X : zm_Cx p s m args meth c cX6_names 4 none D cI cZ ad o) :
    ∀ (n : Nat) (S : Nat → Int32) (M : Nat → Nat → Int32) (v1 : Int32) (v2 : Int32) (v3 : Int32), fm_names_16 Q n S M v1 v2 v3 → ∀ (H : Heap) (locs : List Loc) (ls : Array Slot), lv_has ls 4 [(0, .ref o), (1, .int v1), (2, .int v2), (3, .int v3)] → zm_H D cI cZ ad o S M s H locs → W p l e (zm_R 0) s m args below meth c H locs 0 0 (MQ below (zm_QV Q D cI cZ ad o) args s 0 0 (zm_A ad o)) (F0 m 16 ls []) := by
  have hx := X.1
  have hb := X.2.1
  intro n
  induction n with
  | zero =>
    intro S M v1 v2 v3 hF
    exact False.elim hF
  | succ n ih =>
    intro S M v1 v2 v3 hF
    intro H locs ls hl hH
    unfold fm_names_16 at hF
    refine lv_iload_n hx hb dX6_names_16 rfl (lv_at hl 3 rfl) ?_
    refine lv_aload_n hx hb dX6_names_17 rfl (lv_at hl 0 rfl) ?_
    refine zm_getf X hH 22 (by decide) rfl q1735 dX6_names_18 ?_
    refine lv_iload_n hx hb dX6_names_21 rfl (lv_at hl 1 rfl) ?_
    obtain ⟨hI, hF⟩ := hF
    refine zm_iald X hH 22 (by decide) rfl (n := 150) rfl hI dX6_names_22 ?_
    refine lv_icmp_ge (tgt := 49) hx hb dX6_names_23 (by decide) (fun cd => ?_) (fun cd => ?_)
    · have hF := hF.1 cd
      refine lv_aload_n hx hb dX6_names_49 rfl (lv_at hl 0 rfl) ?_
      refine zm_getf X hH 21 (by decide) rfl q1734 dX6_names_50 ?_
      refine lv_sipush (v := 150) hx hb dX6_names_53 (by decide) ?_
      refine lv_iload_n hx hb dX6_names_56 rfl (lv_at hl 1 rfl) ?_
      refine lv_imul hx hb dX6_names_57 ?_
      refine lv_aload_n hx hb dX6_names_58 rfl (lv_at hl 0 rfl) ?_
      refine zm_getf X hH 22 (by decide) rfl q1735 dX6_names_59 ?_
      refine lv_iload_n hx hb dX6_names_62 rfl (lv_at hl 1 rfl) ?_
      obtain ⟨hI, hF⟩ := hF
      refine zm_iald X hH 22 (by decide) rfl (n := 150) rfl hI dX6_names_63 ?_
      refine lv_iadd hx hb dX6_names_64 ?_
      refine lv_iload_n hx hb dX6_names_65 rfl (lv_at hl 2 rfl) ?_
      obtain ⟨hI, hF⟩ := hF
      refine zm_iast X hH 21 (by decide) rfl (n := 22500) rfl hI dX6_names_66 (fun M1 H locs eM1 hH => ?_)
      have hF := hF M1 eM1
      refine lv_aload_n hx hb dX6_names_67 rfl (lv_at hl 0 rfl) ?_
      refine zm_getf X hH 22 (by decide) rfl q1735 dX6_names_68 ?_
      refine lv_iload_n hx hb dX6_names_71 rfl (lv_at hl 1 rfl) ?_
      refine lv_dup2_11 hx hb dX6_names_72 rfl rfl ?_
      obtain ⟨hI, hF⟩ := hF
      refine zm_iald X hH 22 (by decide) rfl (n := 150) rfl hI dX6_names_73 ?_
      refine lv_iconst (v := 1) hx hb dX6_names_74 (by decide) ?_
      refine lv_iadd hx hb dX6_names_75 ?_
      obtain ⟨hI, hF⟩ := hF
      refine zm_iast X hH 22 (by decide) rfl (n := 150) rfl hI dX6_names_76 (fun M2 H locs eM2 hH => ?_)
      have hF := hF M2 eM2
      exact zm_vret X hH hF dX6_names_77
    · have hF := hF.2 cd
      refine lv_aload_n hx hb dX6_names_26 rfl (lv_at hl 0 rfl) ?_
      refine zm_getf X hH 21 (by decide) rfl q1734 dX6_names_27 ?_
      refine lv_sipush (v := 150) hx hb dX6_names_30 (by decide) ?_
      refine lv_iload_n hx hb dX6_names_33 rfl (lv_at hl 1 rfl) ?_
      refine lv_imul hx hb dX6_names_34 ?_
      refine lv_iload_n hx hb dX6_names_35 rfl (lv_at hl 3 rfl) ?_
      refine lv_iadd hx hb dX6_names_36 ?_
      obtain ⟨hI, hF⟩ := hF
      refine zm_iald X hH 21 (by decide) rfl (n := 22500) rfl hI dX6_names_37 ?_
      refine lv_iload_n hx hb dX6_names_38 rfl (lv_at hl 2 rfl) ?_
      refine lv_icmp_ne (tgt := 43) hx hb dX6_names_39 (by decide) (fun cd => ?_) (fun cd => ?_)
      · have hF := hF.1 cd
        obtain ⟨x3, ex3⟩ : ∃ z : Int32, z = v3 + 1 := ⟨_, rfl⟩
        have hF := hF x3 ex3
        refine lv_iinc (v := x3) (lv' := [(3, .int x3), (0, .ref o), (1, .int v1), (2, .int v2)]) hx hb dX6_names_43 hl (k := 3) rfl (by rw [ex3]; rfl) (by decide) rfl (fun ls hl => ?_)
        refine lv_goto (tgt := 16) hx hb dX6_names_46 (by decide) ?_
        exact ih S M v1 v2 x3 hF _ _ _ (lv_sub hl [1, 2, 3, 0] rfl) hH
      · have hF := hF.2 cd
        exact zm_vret X hH hF dX6_names_42
set_option maxHeartbeats 4000000 in
set_option maxRecDepth 100000 in
/-- names: what the bytecode asks is what its run needs -/
theorem wm_names (l : Launch) (D : va_G) (cI cZ : ClassId) (ad : Nat → Nat) (o : Nat) (hAd : zm_Ad ad o) (S : Nat → Int32) (M : Nat → Nat → Int32) (v1 : Int32) (v2 : Int32) (Q : (Nat → Int32) → (Nat → Nat → Int32) → Prop) (hF : fm_names S M v1 v2 Q) :
    zm_Mv l yX6_names (ws_ yX6_names cX6_names 4 none) 0 D cI cZ ad o [.int v1, .int v2] S M Q := by
  refine zm_ofv rfl hAd (Nat.le_of_ble_eq_true rfl) ?_
  intro p e s m args below meth c H locs ls X hH hl
  have hx := X.1
  have hb := X.2.1
  have hl : lv_has ls 4 [(0, .ref o), (1, .int v1), (2, .int v2)] := hl
  unfold fm_names at hF
  refine lv_iload_n hx hb dX6_names_0 rfl (lv_at hl 2 rfl) ?_
  refine lv_if_lt (tgt := 13) hx hb dX6_names_1 (by decide) (fun cd => ?_) (fun cd => ?_)
  · have hF := hF.1 cd
    exact zm_vret X hH hF dX6_names_13
  · have hF := hF.2 cd
    refine lv_aload_n hx hb dX6_names_4 rfl (lv_at hl 0 rfl) ?_
    refine zm_getf X hH 29 (by decide) rfl q1742 dX6_names_5 ?_
    refine lv_iload_n hx hb dX6_names_8 rfl (lv_at hl 2 rfl) ?_
    obtain ⟨hI, hF⟩ := hF
    refine zm_zald X hH 29 (by decide) rfl (n := 150) rfl hI dX6_names_9 ?_
    refine lv_if_eq (tgt := 14) hx hb dX6_names_10 (by decide) (fun cd => ?_) (fun cd => ?_)
    · have hF := hF.1 cd
      refine lv_iconst (v := 0) hx hb dX6_names_14 (by decide) ?_
      refine lv_istore_n (lv' := [(3, .int 0), (0, .ref o), (1, .int v1), (2, .int v2)]) hx hb dX6_names_15 rfl hl (by decide) rfl (fun ls hl => ?_)
      obtain ⟨n9, hF⟩ := hF
      exact wm_names_16 X n9 S M v1 v2 0 hF _ _ _ (lv_sub hl [1, 2, 3, 0] rfl) hH
    · have hF := hF.2 cd
      exact zm_vret X hH hF dX6_names_13
