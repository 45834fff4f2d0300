/-! THE MODEL SIDE: the walks, printed by gen_model.py -/
set_option maxRecDepth 100000
set_option maxHeartbeats 4000000 in
set_option maxRecDepth 100000 in
theorem wm_isSibling_53 {p : Program} {l : Launch} {e : Env} {s : State} {m : MethodId} {args : Array Value} {below : List Frame} {meth : Method} {c : Code} {D : va_G} {cI cZ : ClassId} {ad : Nat → Nat} {o : Nat} {Q : Int32 → Prop} {S0 : Nat → Int32} {M0 : Nat → Nat → Int32} (X : zm_Cx p s m args meth c cX6_isSibling 3 (some .boolean) D cI cZ ad o) :
    ∀ (S : Nat → Int32) (M : Nat → Nat → Int32), fm_isSibling_53 Q S M → ∀ (H : Heap) (locs : List Loc) (ls : Array Slot), S0 = S → M0 = M → lv_has ls 3 [(0, .ref o)] → zm_H D cI cZ ad o S M s H locs → W p l e (zm_R 1) s m args below meth c H locs 0 0 (MQ below (zm_QS (fun r S1 M1 => Q r ∧ S0 = S1 ∧ M0 = M1) D cI cZ ad o) args s 0 0 (zm_A ad o)) (F0 m 53 ls []) := by
  have hx := X.1
  have hb := X.2.1
  intro S M hF
  intro H locs ls eS eM hl hH
  unfold fm_isSibling_53 at hF
  refine lv_iconst (v := 1) hx hb dX6_isSibling_53 (by decide) ?_
  refine lv_goto (tgt := 58) hx hb dX6_isSibling_54 (by decide) ?_
  exact zm_iret X hH rfl rfl ⟨hF, eS, eM⟩ dX6_isSibling_58
set_option maxHeartbeats 4000000 in
set_option maxRecDepth 100000 in
theorem wm_isSibling_30 {p : Program} {l : Launch} {e : Env} {s : State} {m : MethodId} {args : Array Value} {below : List Frame} {meth : Method} {c : Code} {D : va_G} {cI cZ : ClassId} {ad : Nat → Nat} {o : Nat} {Q : Int32 → Prop} {S0 : Nat → Int32} {M0 : Nat → Nat → Int32} (X : zm_Cx p s m args meth c cX6_isSibling 3 (some .boolean) D cI cZ ad o) :
    ∀ (S : Nat → Int32) (M : Nat → Nat → Int32) (v1 : Int32) (v2 : Int32), fm_isSibling_30 Q S M v1 v2 → ∀ (H : Heap) (locs : List Loc) (ls : Array Slot), S0 = S → M0 = M → lv_has ls 3 [(0, .ref o), (1, .int v1), (2, .int v2)] → zm_H D cI cZ ad o S M s H locs → W p l e (zm_R 1) s m args below meth c H locs 0 0 (MQ below (zm_QS (fun r S1 M1 => Q r ∧ S0 = S1 ∧ M0 = M1) D cI cZ ad o) args s 0 0 (zm_A ad o)) (F0 m 30 ls []) := by
  have hx := X.1
  have hb := X.2.1
  intro S M v1 v2 hF
  intro H locs ls eS eM hl hH
  unfold fm_isSibling_30 at hF
  refine lv_aload_n hx hb dX6_isSibling_30 rfl (lv_at hl 0 rfl) ?_
  refine zm_getf X hH 38 (by decide) rfl q1751 dX6_isSibling_31 ?_
  refine lv_iload_n hx hb dX6_isSibling_34 rfl (lv_at hl 2 rfl) ?_
  obtain ⟨hI, hF⟩ := hF
  refine zm_iald X hH 38 (by decide) rfl (n := 150) rfl hI dX6_isSibling_35 ?_
  refine lv_if_lt (tgt := 57) hx hb dX6_isSibling_36 (by decide) (fun cd => ?_) (fun cd => ?_)
  · have hF := hF.1 cd
    refine lv_iconst (v := 0) hx hb dX6_isSibling_57 (by decide) ?_
    exact zm_iret X hH rfl rfl ⟨hF, eS, eM⟩ dX6_isSibling_58
  · have hF := hF.2 cd
    refine lv_aload_n hx hb dX6_isSibling_39 rfl (lv_at hl 0 rfl) ?_
    refine lv_aload_n hx hb dX6_isSibling_40 rfl (lv_at hl 0 rfl) ?_
    refine zm_getf X hH 38 (by decide) rfl q1751 dX6_isSibling_41 ?_
    refine lv_iload_n hx hb dX6_isSibling_44 rfl (lv_at hl 2 rfl) ?_
    obtain ⟨hI, hF⟩ := hF
    refine zm_iald X hH 38 (by decide) rfl (n := 150) rfl hI dX6_isSibling_45 ?_
    refine lv_iload_n hx hb dX6_isSibling_46 rfl (lv_at hl 1 rfl) ?_
    refine zm_calli (As := [.int (M 38 v2.toNatClampNeg), .int v1]) (rest := []) X hH (wm_isParent l D cI cZ ad o X.2.2.2.2.2.2.2.2 S M (M 38 v2.toNatClampNeg) v1 _ hF) (cwV 2 X.2.2.2.2.1 (lw_V q1987 q1989 qs56 q95 q1990) rfl rfl rfl (by decide +kernel) ⟨Nat.le_of_ble_eq_true rfl, Nat.le_of_ble_eq_true rfl⟩) rfl hl.1 rfl (Nat.le_of_ble_eq_true rfl) dX6_isSibling_47 (Nat.le_refl 0) (Nat.le_refl 0) (fun r3 S1 M2 H locs hF hH => ?_)
    obtain ⟨hF, e9, e8⟩ := hF; subst e9; subst e8
    refine lv_if_eq (tgt := 57) hx hb dX6_isSibling_50 (by decide) (fun cd => ?_) (fun cd => ?_)
    · have hF := hF.1 cd
      refine lv_iconst (v := 0) hx hb dX6_isSibling_57 (by decide) ?_
      exact zm_iret X hH rfl rfl ⟨hF, eS, eM⟩ dX6_isSibling_58
    · have hF := hF.2 cd
      exact wm_isSibling_53 X S M hF _ _ _ eS eM (lv_sub hl [0] rfl) hH
set_option maxHeartbeats 4000000 in
set_option maxRecDepth 100000 in
/-- isSibling: what the bytecode asks is what its run needs -/
theorem wm_isSibling (l : Launch) (D : va_G) (cI cZ : ClassId) (ad : Nat → Nat) (o : Nat) (hAd : zm_Ad ad o) (S : Nat → Int32) (M : Nat → Nat → Int32) (v1 : Int32) (v2 : Int32) (Q : Int32 → Prop) (hF : fm_isSibling S M v1 v2 Q) :
    zm_Mi l yX6_isSibling (ws_ yX6_isSibling cX6_isSibling 3 (some .boolean)) 1 D cI cZ ad o [.int v1, .int v2] S M (fun r S1 M1 => Q r ∧ S = S1 ∧ M = M1) := by
  refine zm_ofi rfl hAd (Nat.le_of_ble_eq_true rfl) ?_
  intro p e s m args below meth c H locs ls X hH hl
  have hx := X.1
  have hb := X.2.1
  have hl : lv_has ls 3 [(0, .ref o), (1, .int v1), (2, .int v2)] := hl
  unfold fm_isSibling at hF
  refine lv_iload_n hx hb dX6_isSibling_0 rfl (lv_at hl 1 rfl) ?_
  refine lv_iload_n hx hb dX6_isSibling_1 rfl (lv_at hl 2 rfl) ?_
  refine lv_icmp_ne (tgt := 7) hx hb dX6_isSibling_2 (by decide) (fun cd => ?_) (fun cd => ?_)
  · have hF := hF.1 cd
    refine lv_aload_n hx hb dX6_isSibling_7 rfl (lv_at hl 0 rfl) ?_
    refine zm_getf X hH 37 (by decide) rfl q1750 dX6_isSibling_8 ?_
    refine lv_iload_n hx hb dX6_isSibling_11 rfl (lv_at hl 2 rfl) ?_
    obtain ⟨hI, hF⟩ := hF
    refine zm_iald X hH 37 (by decide) rfl (n := 150) rfl hI dX6_isSibling_12 ?_
    refine lv_if_lt (tgt := 30) hx hb dX6_isSibling_13 (by decide) (fun cd => ?_) (fun cd => ?_)
    · have hF := hF.1 cd
      exact wm_isSibling_30 X S M v1 v2 hF _ _ _ rfl rfl (lv_sub hl [0, 1, 2] rfl) hH
    · have hF := hF.2 cd
      refine lv_aload_n hx hb dX6_isSibling_16 rfl (lv_at hl 0 rfl) ?_
      refine lv_aload_n hx hb dX6_isSibling_17 rfl (lv_at hl 0 rfl) ?_
      refine zm_getf X hH 37 (by decide) rfl q1750 dX6_isSibling_18 ?_
      refine lv_iload_n hx hb dX6_isSibling_21 rfl (lv_at hl 2 rfl) ?_
      obtain ⟨hI, hF⟩ := hF
      refine zm_iald X hH 37 (by decide) rfl (n := 150) rfl hI dX6_isSibling_22 ?_
      refine lv_iload_n hx hb dX6_isSibling_23 rfl (lv_at hl 1 rfl) ?_
      refine zm_calli (As := [.int (M 37 v2.toNatClampNeg), .int v1]) (rest := []) X hH (wm_isParent l D cI cZ ad o X.2.2.2.2.2.2.2.2 S M (M 37 v2.toNatClampNeg) v1 _ hF) (cwV 2 X.2.2.2.2.1 (lw_V q1987 q1989 qs56 q95 q1990) rfl rfl rfl (by decide +kernel) ⟨Nat.le_of_ble_eq_true rfl, Nat.le_of_ble_eq_true rfl⟩) rfl hl.1 rfl (Nat.le_of_ble_eq_true rfl) dX6_isSibling_24 (Nat.le_refl 0) (Nat.le_refl 0) (fun r3 S1 M2 H locs hF hH => ?_)
      obtain ⟨hF, e9, e8⟩ := hF; subst e9; subst e8
      refine lv_if_ne (tgt := 53) hx hb dX6_isSibling_27 (by decide) (fun cd => ?_) (fun cd => ?_)
      · have hF := hF.1 cd
        exact wm_isSibling_53 X S M hF _ _ _ rfl rfl (lv_sub hl [0] rfl) hH
      · have hF := hF.2 cd
        exact wm_isSibling_30 X S M v1 v2 hF _ _ _ rfl rfl (lv_sub hl [0, 1, 2] rfl) hH
  · have hF := hF.2 cd
    refine lv_iconst (v := 0) hx hb dX6_isSibling_5 (by decide) ?_
    exact zm_iret X hH rfl rfl ⟨hF, rfl, rfl⟩ dX6_isSibling_6
set_option maxHeartbeats 4000000 in
set_option maxRecDepth 100000 in
theorem wm_namesBorn_182 {p : Program} {l : Launch} {e : Env} {s : State} {m : MethodId} {args : Array Value} {below : List Frame} {meth : Method} {c : Code} {D : va_G} {cI cZ : ClassId} {ad : Nat → Nat} {o : Nat} {Q : (Nat → Int32) → (Nat → Nat → Int32) → Prop} {K7 : (Nat → Int32) → (Nat → Nat → Int32) → Int32 → Int32 → Int32 → Int32 → Int32 → Prop} (X : zm_Cx p s m args meth c cX6_namesBorn 9 none D cI cZ ad o) (hK7 : ∀ (S : Nat → Int32) (M : Nat → Nat → Int32) (v1 : Int32) (v2 : Int32) (v3 : Int32) (v4 : Int32) (v5 : Int32), K7 S M v1 v2 v3 v4 v5 → ∀ (H : Heap) (locs : List Loc) (ls : Array Slot), lv_has ls 9 [(0, .ref o), (1, .int v1), (2, .int v2), (3, .int v3), (4, .int v4), (5, .int v5)] → zm_H D cI cZ ad o S M s H locs → W p l e (zm_R 2) s m args below meth c H locs 0 0 (MQ below (zm_QV Q D cI cZ ad o) args s 0 0 (zm_A ad o)) (F0 m 7 ls [])) :
    ∀ (S : Nat → Int32) (M : Nat → Nat → Int32) (v1 : Int32) (v2 : Int32) (v3 : Int32) (v4 : Int32) (v5 : Int32), fm_namesBorn_182 Q K7 S M v1 v2 v3 v4 v5 → ∀ (H : Heap) (locs : List Loc) (ls : Array Slot), lv_has ls 9 [(0, .ref o), (1, .int v1), (2, .int v2), (3, .int v3), (4, .int v4), (5, .int v5)] → zm_H D cI cZ ad o S M s H locs → W p l e (zm_R 2) s m args below meth c H locs 0 0 (MQ below (zm_QV Q D cI cZ ad o) args s 0 0 (zm_A ad o)) (F0 m 182 ls []) := by
  have hx := X.1
  have hb := X.2.1
  intro S M v1 v2 v3 v4 v5 hF
  intro H locs ls hl hH
  unfold fm_namesBorn_182 at hF
  refine lv_goto (tgt := 7) hx hb dX6_namesBorn_182 (by decide) ?_
  exact hK7 S M v1 v2 v3 v4 v5 hF _ _ _ (lv_sub hl [0, 1, 2, 3, 4, 5] rfl) hH
set_option maxHeartbeats 4000000 in
set_option maxRecDepth 100000 in
theorem wm_namesBorn_176 {p : Program} {l : Launch} {e : Env} {s : State} {m : MethodId} {args : Array Value} {below : List Frame} {meth : Method} {c : Code} {D : va_G} {cI cZ : ClassId} {ad : Nat → Nat} {o : Nat} {Q : (Nat → Int32) → (Nat → Nat → Int32) → Prop} {K7 : (Nat → Int32) → (Nat → Nat → Int32) → Int32 → Int32 → Int32 → Int32 → Int32 → Prop} {K116 : (Nat → Int32) → (Nat → Nat → Int32) → Int32 → Int32 → Int32 → Int32 → Int32 → Int32 → Prop} (X : zm_Cx p s m args meth c cX6_namesBorn 9 none D cI cZ ad o) (hK7 : ∀ (S : Nat → Int32) (M : Nat → Nat → Int32) (v1 : Int32) (v2 : Int32) (v3 : Int32) (v4 : Int32) (v5 : Int32), K7 S M v1 v2 v3 v4 v5 → ∀ (H : Heap) (locs : List Loc) (ls : Array Slot), lv_has ls 9 [(0, .ref o), (1, .int v1), (2, .int v2), (3, .int v3), (4, .int v4), (5, .int v5)] → zm_H D cI cZ ad o S M s H locs → W p l e (zm_R 2) s m args below meth c H locs 0 0 (MQ below (zm_QV Q D cI cZ ad o) args s 0 0 (zm_A ad o)) (F0 m 7 ls [])) (hK116 : ∀ (S : Nat → Int32) (M : Nat → Nat → Int32) (v1 : Int32) (v2 : Int32) (v3 : Int32) (v4 : Int32) (v5 : Int32) (v7 : Int32), K116 S M v1 v2 v3 v4 v5 v7 → ∀ (H : Heap) (locs : List Loc) (ls : Array Slot), lv_has ls 9 [(0, .ref o), (1, .int v1), (2, .int v2), (3, .int v3), (4, .int v4), (5, .int v5), (7, .int v7)] → zm_H D cI cZ ad o S M s H locs → W p l e (zm_R 2) s m args below meth c H locs 0 0 (MQ below (zm_QV Q D cI cZ ad o) args s 0 0 (zm_A ad o)) (F0 m 116 ls [])) :
    ∀ (S : Nat → Int32) (M : Nat → Nat → Int32) (v1 : Int32) (v2 : Int32) (v3 : Int32) (v4 : Int32) (v5 : Int32) (v7 : Int32), fm_namesBorn_176 Q K7 K116 S M v1 v2 v3 v4 v5 v7 → ∀ (H : Heap) (locs : List Loc) (ls : Array Slot), lv_has ls 9 [(0, .ref o), (1, .int v1), (2, .int v2), (3, .int v3), (4, .int v4), (5, .int v5), (7, .int v7)] → zm_H D cI cZ ad o S M s H locs → W p l e (zm_R 2) s m args below meth c H locs 0 0 (MQ below (zm_QV Q D cI cZ ad o) args s 0 0 (zm_A ad o)) (F0 m 176 ls []) := by
  have hx := X.1
  have hb := X.2.1
  intro S M v1 v2 v3 v4 v5 v7 hF
  intro H locs ls hl hH
  unfold fm_namesBorn_176 at hF
  obtain ⟨x1, ex1⟩ : ∃ z : Int32, z = v7 + 1 := ⟨_, rfl⟩
  have hF := hF x1 ex1
  refine lv_iinc (v := x1) (lv' := [(7, .int x1), (0, .ref o), (1, .int v1), (2, .int v2), (3, .int v3), (4, .int v4), (5, .int v5)]) hx hb dX6_namesBorn_176 hl (k := 6) rfl (by rw [ex1]; rfl) (by decide) rfl (fun ls hl => ?_)
  refine lv_goto (tgt := 116) hx hb dX6_namesBorn_179 (by decide) ?_
  exact hK116 S M v1 v2 v3 v4 v5 x1 hF _ _ _ (lv_sub hl [1, 2, 3, 4, 5, 6, 0] rfl) hH
set_option maxHeartbeats 4000000 in
set_option maxRecDepth 100000 in
theorem wm_namesBorn_169 {p : Program} {l : Launch} {e : Env} {s : State} {m : MethodId} {args : Array Value} {below : List Frame} {meth : Method} {c : Code} {D : va_G} {cI cZ : ClassId} {ad : Nat → Nat} {o : Nat} {Q : (Nat → Int32) → (Nat → Nat → Int32) → Prop} {K7 : (Nat → Int32) → (Nat → Nat → Int32) → Int32 → Int32 → Int32 → Int32 → Int32 → Prop} {K116 : (Nat → Int32) → (Nat → Nat → Int32) → Int32 → Int32 → Int32 → Int32 → Int32 → Int32 → Prop} (X : zm_Cx p s m args meth c cX6_namesBorn 9 none D cI cZ ad o) (hK7 : ∀ (S : Nat → Int32) (M : Nat → Nat → Int32) (v1 : Int32) (v2 : Int32) (v3 : Int32) (v4 : Int32) (v5 : Int32), K7 S M v1 v2 v3 v4 v5 → ∀ (H : Heap) (locs : List Loc) (ls : Array Slot), lv_has ls 9 [(0, .ref o), (1, .int v1), (2, .int v2), (3, .int v3), (4, .int v4), (5, .int v5)] → zm_H D cI cZ ad o S M s H locs → W p l e (zm_R 2) s m args below meth c H locs 0 0 (MQ below (zm_QV Q D cI cZ ad o) args s 0 0 (zm_A ad o)) (F0 m 7 ls [])) (hK116 : ∀ (S : Nat → Int32) (M : Nat → Nat → Int32) (v1 : Int32) (v2 : Int32) (v3 : Int32) (v4 : Int32) (v5 : Int32) (v7 : Int32), K116 S M v1 v2 v3 v4 v5 v7 → ∀ (H : Heap) (locs : List Loc) (ls : Array Slot), lv_has ls 9 [(0, .ref o), (1, .int v1), (2, .int v2), (3, .int v3), (4, .int v4), (5, .int v5), (7, .int v7)] → zm_H D cI cZ ad o S M s H locs → W p l e (zm_R 2) s m args below meth c H locs 0 0 (MQ below (zm_QV Q D cI cZ ad o) args s 0 0 (zm_A ad o)) (F0 m 116 ls [])) :
    ∀ (S : Nat → Int32) (M : Nat → Nat → Int32) (v1 : Int32) (v2 : Int32) (v3 : Int32) (v4 : Int32) (v5 : Int32) (v7 : Int32), fm_namesBorn_169 Q K7 K116 S M v1 v2 v3 v4 v5 v7 → ∀ (H : Heap) (locs : List Loc) (ls : Array Slot), lv_has ls 9 [(0, .ref o), (1, .int v1), (2, .int v2), (3, .int v3), (4, .int v4), (5, .int v5), (7, .int v7)] → zm_H D cI cZ ad o S M s H locs → W p l e (zm_R 2) s m args below meth c H locs 0 0 (MQ below (zm_QV Q D cI cZ ad o) args s 0 0 (zm_A ad o)) (F0 m 169 ls []) := by
  have hx := X.1
  have hb := X.2.1
  intro S M v1 v2 v3 v4 v5 v7 hF
  intro H locs ls hl hH
  unfold fm_namesBorn_169 at hF
  refine lv_aload_n hx hb dX6_namesBorn_169 rfl (lv_at hl 0 rfl) ?_
  refine lv_iload_n hx hb dX6_namesBorn_170 rfl (lv_at hl 1 rfl) ?_
  refine lv_iload hx hb dX6_namesBorn_171 (lv_at hl 6 rfl) ?_
  refine zm_callv (As := [.int v1, .int v7]) (rest := []) X hH (wm_names l D cI cZ ad o X.2.2.2.2.2.2.2.2 S M v1 v7 _ hF) (cwV 2 X.2.2.2.2.1 (lw_V q1977 q1979 qs54 q95 q1980) rfl rfl rfl (by decide +kernel) ⟨Nat.le_of_ble_eq_true rfl, Nat.le_of_ble_eq_true rfl⟩) rfl hl.1 rfl (Nat.le_of_ble_eq_true rfl) dX6_namesBorn_173 (Nat.le_refl 0) (Nat.le_refl 0) (fun S1 M2 H locs hF hH => ?_)
  exact wm_namesBorn_176 X hK7 hK116 S1 M2 v1 v2 v3 v4 v5 v7 hF _ _ _ (lv_sub hl [0, 1, 2, 3, 4, 5, 6] rfl) hH
set_option maxHeartbeats 4000000 in
set_option maxRecDepth 100000 in
theorem wm_namesBorn_116 {p : Program} {l : Launch} {e : Env} {s : State} {m : MethodId} {args : Array Value} {below : List Frame} {meth : Method} {c : Code} {D : va_G} {cI cZ : ClassId} {ad : Nat → Nat} {o : Nat} {Q : (Nat → Int32) → (Nat → Nat → Int32) → Prop} {K7 : (Nat → Int32) → (Nat → Nat → Int32) → Int32 → Int32 → Int32 → Int32 → Int32 → Prop} (X : zm_Cx p s m args meth c cX6_namesBorn 9 none D cI cZ ad o) (hK7 : ∀ (S : Nat → Int32) (M : Nat → Nat → Int32) (v1 : Int32) (v2 : Int32) (v3 : Int32) (v4 : Int32) (v5 : Int32), K7 S M v1 v2 v3 v4 v5 → ∀ (H : Heap) (locs : List Loc) (ls : Array Slot), lv_has ls 9 [(0, .ref o), (1, .int v1), (2, .int v2), (3, .int v3), (4, .int v4), (5, .int v5)] → zm_H D cI cZ ad o S M s H locs → W p l e (zm_R 2) s m args below meth c H locs 0 0 (MQ below (zm_QV Q D cI cZ ad o) args s 0 0 (zm_A ad o)) (F0 m 7 ls [])) :
    ∀ (n : Nat) (S : Nat → Int32) (M : Nat → Nat → Int32) (v1 : Int32) (v2 : Int32) (v3 : Int32) (v4 : Int32) (v5 : Int32) (v7 : Int32), fm_namesBorn_116 Q K7 n S M v1 v2 v3 v4 v5 v7 → ∀ (H : Heap) (locs : List Loc) (ls : Array Slot), lv_has ls 9 [(0, .ref o), (1, .int v1), (2, .int v2), (3, .int v3), (4, .int v4), (5, .int v5), (7, .int v7)] → zm_H D cI cZ ad o S M s H locs → W p l e (zm_R 2) s m args below meth c H locs 0 0 (MQ below (zm_QV Q D cI cZ ad o) args s 0 0 (zm_A ad o)) (F0 m 116 ls []) := by
  have hx := X.1
  have hb := X.2.1
  intro n
  induction n with
  | zero =>
    intro S M v1 v2 v3 v4 v5 v7 hF
    exact False.elim hF
  | succ n ih =>
    intro S M v1 v2 v3 v4 v5 v7 hF
    intro H locs ls hl hH
    unfold fm_namesBorn_116 at hF
    refine lv_iload hx hb dX6_namesBorn_116 (lv_at hl 6 rfl) ?_
    refine lv_aload_n hx hb dX6_namesBorn_118 rfl (lv_at hl 0 rfl) ?_
    refine zm_getf X hH 27 (by decide) rfl q1740 dX6_namesBorn_119 ?_
    refine lv_icmp_ge (tgt := 182) hx hb dX6_namesBorn_122 (by decide) (fun cd => ?_) (fun cd => ?_)
    · have hF := hF.1 cd
      exact wm_namesBorn_182 X hK7 S M v1 v2 v3 v4 v5 hF _ _ _ (lv_sub hl [0, 1, 2, 3, 4, 5] rfl) hH
    · have hF := hF.2 cd
      refine lv_iload hx hb dX6_namesBorn_125 (lv_at hl 5 rfl) ?_
      refine lv_if_eq (tgt := 182) hx hb dX6_namesBorn_127 (by decide) (fun cd => ?_) (fun cd => ?_)
      · have hF := hF.1 cd
        exact wm_namesBorn_182 X hK7 S M v1 v2 v3 v4 v5 hF _ _ _ (lv_sub hl [0, 1, 2, 3, 4, 5] rfl) hH
      · have hF := hF.2 cd
        refine lv_aload_n hx hb dX6_namesBorn_130 rfl (lv_at hl 0 rfl) ?_
        refine zm_getf X hH 28 (by decide) rfl q1741 dX6_namesBorn_131 ?_
        refine lv_iload hx hb dX6_namesBorn_134 (lv_at hl 6 rfl) ?_
        obtain ⟨hI, hF⟩ := hF
        refine zm_iald X hH 28 (by decide) rfl (n := 150) rfl hI dX6_namesBorn_136 ?_
        refine lv_iload hx hb dX6_namesBorn_137 (lv_at hl 4 rfl) ?_
        refine lv_icmp_ne (tgt := 176) hx hb dX6_namesBorn_139 (by decide) (fun cd => ?_) (fun cd => ?_)
        · have hF := hF.1 cd
          exact wm_namesBorn_176 X hK7 ih S M v1 v2 v3 v4 v5 v7 hF _ _ _ (lv_sub hl [0, 1, 2, 3, 4, 5, 6] rfl) hH
        · have hF := hF.2 cd
          refine lv_iload_n hx hb dX6_namesBorn_142 rfl (lv_at hl 3 rfl) ?_
          refine lv_if_ne (tgt := 159) hx hb dX6_namesBorn_143 (by decide) (fun cd => ?_) (fun cd => ?_)
          · have hF := hF.1 cd
            refine lv_aload_n hx hb dX6_namesBorn_159 rfl (lv_at hl 0 rfl) ?_
            refine lv_iload hx hb dX6_namesBorn_160 (lv_at hl 6 rfl) ?_
            refine lv_iload_n hx hb dX6_namesBorn_162 rfl (lv_at hl 2 rfl) ?_
            refine zm_calli (As := [.int v7, .int v2]) (rest := []) X hH (wm_isSibling l D cI cZ ad o X.2.2.2.2.2.2.2.2 S M v7 v2 _ hF) (cwV 2 X.2.2.2.2.1 (lw_V q1991 q1993 qs57 q95 q1994) rfl rfl rfl (by decide +kernel) ⟨Nat.le_of_ble_eq_true rfl, Nat.le_of_ble_eq_true rfl⟩) rfl hl.1 rfl (Nat.le_of_ble_eq_true rfl) dX6_namesBorn_163 (Nat.le_refl 0) (Nat.le_refl 0) (fun r3 S1 M2 H locs hF hH => ?_)
            obtain ⟨hF, e9, e8⟩ := hF; subst e9; subst e8
            refine lv_if_eq (tgt := 176) hx hb dX6_namesBorn_166 (by decide) (fun cd => ?_) (fun cd => ?_)
            · have hF := hF.1 cd
              exact wm_namesBorn_176 X hK7 ih S M v1 v2 v3 v4 v5 v7 hF _ _ _ (lv_sub hl [0, 1, 2, 3, 4, 5, 6] rfl) hH
            · have hF := hF.2 cd
              exact wm_namesBorn_169 X hK7 ih S M v1 v2 v3 v4 v5 v7 hF _ _ _ (lv_sub hl [0, 1, 2, 3, 4, 5, 6] rfl) hH
          · have hF := hF.2 cd
            refine lv_aload_n hx hb dX6_namesBorn_146 rfl (lv_at hl 0 rfl) ?_
            refine lv_iload_n hx hb dX6_namesBorn_147 rfl (lv_at hl 2 rfl) ?_
            refine lv_iload hx hb dX6_namesBorn_148 (lv_at hl 6 rfl) ?_
            refine zm_calli (As := [.int v2, .int v7]) (rest := []) X hH (wm_isParent l D cI cZ ad o X.2.2.2.2.2.2.2.2 S M v2 v7 _ hF) (cwV 2 X.2.2.2.2.1 (lw_V q1987 q1989 qs56 q95 q1990) rfl rfl rfl (by decide +kernel) ⟨Nat.le_of_ble_eq_true rfl, Nat.le_of_ble_eq_true rfl⟩) rfl hl.1 rfl (Nat.le_of_ble_eq_true rfl) dX6_namesBorn_150 (Nat.le_refl 0) (Nat.le_refl 0) (fun r6 S4 M5 H locs hF hH => ?_)
            obtain ⟨hF, e9, e8⟩ := hF; subst e9; subst e8
            refine lv_if_eq (tgt := 176) hx hb dX6_namesBorn_153 (by decide) (fun cd => ?_) (fun cd => ?_)
            · have hF := hF.1 cd
              exact wm_namesBorn_176 X hK7 ih S M v1 v2 v3 v4 v5 v7 hF _ _ _ (lv_sub hl [0, 1, 2, 3, 4, 5, 6] rfl) hH
            · have hF := hF.2 cd
              refine lv_goto (tgt := 169) hx hb dX6_namesBorn_156 (by decide) ?_
              exact wm_namesBorn_169 X hK7 ih S M v1 v2 v3 v4 v5 v7 hF _ _ _ (lv_sub hl [0, 1, 2, 3, 4, 5, 6] rfl) hH
set_option maxHeartbeats 4000000 in
set_option maxRecDepth 100000 in
theorem wm_namesBorn_107 {p : Program} {l : Launch} {e : Env} {s : State} {m : MethodId} {args : Array Value} {below : List Frame} {meth : Method} {c : Code} {D : va_G} {cI cZ : ClassId} {ad : Nat → Nat} {o : Nat} {Q : (Nat → Int32) → (Nat → Nat → Int32) → Prop} {K7 : (Nat → Int32) → (Nat → Nat → Int32) → Int32 → Int32 → Int32 → Int32 → Int32 → Prop} (X : zm_Cx p s m args meth c cX6_namesBorn 9 none D cI cZ ad o) (hK7 : ∀ (S : Nat → Int32) (M : Nat → Nat → Int32) (v1 : Int32) (v2 : Int32) (v3 : Int32) (v4 : Int32) (v5 : Int32), K7 S M v1 v2 v3 v4 v5 → ∀ (H : Heap) (locs : List Loc) (ls : Array Slot), lv_has ls 9 [(0, .ref o), (1, .int v1), (2, .int v2), (3, .int v3), (4, .int v4), (5, .int v5)] → zm_H D cI cZ ad o S M s H locs → W p l e (zm_R 2) s m args below meth c H locs 0 0 (MQ below (zm_QV Q D cI cZ ad o) args s 0 0 (zm_A ad o)) (F0 m 7 ls [])) :
    ∀ (S : Nat → Int32) (M : Nat → Nat → Int32) (v1 : Int32) (v2 : Int32) (v3 : Int32) (v6 : Int32) (t0 : Int32), fm_namesBorn_107 Q K7 S M v1 v2 v3 v6 t0 → ∀ (H : Heap) (locs : List Loc) (ls : Array Slot), lv_has ls 9 [(0, .ref o), (1, .int v1), (2, .int v2), (3, .int v3), (6, .int v6)] → zm_H D cI cZ ad o S M s H locs → W p l e (zm_R 2) s m args below meth c H locs 0 0 (MQ below (zm_QV Q D cI cZ ad o) args s 0 0 (zm_A ad o)) (F0 m 107 ls [.int t0]) := by
  have hx := X.1
  have hb := X.2.1
  intro S M v1 v2 v3 v6 t0 hF
  intro H locs ls hl hH
  unfold fm_namesBorn_107 at hF
  refine lv_istore (lv' := [(5, .int t0), (0, .ref o), (1, .int v1), (2, .int v2), (3, .int v3), (6, .int v6)]) hx hb dX6_namesBorn_107 hl (by decide) rfl (fun ls hl => ?_)
  refine lv_iload hx hb dX6_namesBorn_109 (lv_at hl 5 rfl) ?_
  refine lv_istore (lv' := [(4, .int v6), (5, .int t0), (0, .ref o), (1, .int v1), (2, .int v2), (3, .int v3), (6, .int v6)]) hx hb dX6_namesBorn_111 hl (by decide) rfl (fun ls hl => ?_)
  refine lv_iconst (v := 0) hx hb dX6_namesBorn_113 (by decide) ?_
  refine lv_istore (lv' := [(7, .int 0), (4, .int v6), (5, .int t0), (0, .ref o), (1, .int v1), (2, .int v2), (3, .int v3), (6, .int v6)]) hx hb dX6_namesBorn_114 hl (by decide) rfl (fun ls hl => ?_)
  obtain ⟨n9, hF⟩ := hF
  exact wm_namesBorn_116 X hK7 n9 S M v1 v2 v3 v6 t0 0 hF _ _ _ (lv_sub hl [3, 4, 5, 6, 1, 2, 0] rfl) hH
set_option maxHeartbeats 4000000 in
set_option maxRecDepth 100000 in
theorem wm_namesBorn_89 {p : Program} {l : Launch} {e : Env} {s : State} {m : MethodId} {args : Array Value} {below : List Frame} {meth : Method} {c : Code} {D : va_G} {cI cZ : ClassId} {ad : Nat → Nat} {o : Nat} {Q : (Nat → Int32) → (Nat → Nat → Int32) → Prop} {K7 : (Nat → Int32) → (Nat → Nat → Int32) → Int32 → Int32 → Int32 → Int32 → Int32 → Prop} {K19 : (Nat → Int32) → (Nat → Nat → Int32) → Int32 → Int32 → Int32 → Int32 → Int32 → Int32 → Prop} (X : zm_Cx p s m args meth c cX6_namesBorn 9 none D cI cZ ad o) (hK7 : ∀ (S : Nat → Int32) (M : Nat → Nat → Int32) (v1 : Int32) (v2 : Int32) (v3 : Int32) (v4 : Int32) (v5 : Int32), K7 S M v1 v2 v3 v4 v5 → ∀ (H : Heap) (locs : List Loc) (ls : Array Slot), lv_has ls 9 [(0, .ref o), (1, .int v1), (2, .int v2), (3, .int v3), (4, .int v4), (5, .int v5)] → zm_H D cI cZ ad o S M s H locs → W p l e (zm_R 2) s m args below meth c H locs 0 0 (MQ below (zm_QV Q D cI cZ ad o) args s 0 0 (zm_A ad o)) (F0 m 7 ls [])) (hK19 : ∀ (S : Nat → Int32) (M : Nat → Nat → Int32) (v1 : Int32) (v2 : Int32) (v3 : Int32) (v4 : Int32) (v6 : Int32) (v7 : Int32), K19 S M v1 v2 v3 v4 v6 v7 → ∀ (H : Heap) (locs : List Loc) (ls : Array Slot), lv_has ls 9 [(0, .ref o), (1, .int v1), (2, .int v2), (3, .int v3), (4, .int v4), (6, .int v6), (7, .int v7)] → zm_H D cI cZ ad o S M s H locs → W p l e (zm_R 2) s m args below meth c H locs 0 0 (MQ below (zm_QV Q D cI cZ ad o) args s 0 0 (zm_A ad o)) (F0 m 19 ls [])) :
    ∀ (S : Nat → Int32) (M : Nat → Nat → Int32) (v1 : Int32) (v2 : Int32) (v3 : Int32) (v4 : Int32) (v6 : Int32) (v7 : Int32), fm_namesBorn_89 Q K7 K19 S M v1 v2 v3 v4 v6 v7 → ∀ (H : Heap) (locs : List Loc) (ls : Array Slot), lv_has ls 9 [(0, .ref o), (1, .int v1), (2, .int v2), (3, .int v3), (4, .int v4), (6, .int v6), (7, .int v7)] → zm_H D cI cZ ad o S M s H locs → W p l e (zm_R 2) s m args below meth c H locs 0 0 (MQ below (zm_QV Q D cI cZ ad o) args s 0 0 (zm_A ad o)) (F0 m 89 ls []) := by
  have hx := X.1
  have hb := X.2.1
  intro S M v1 v2 v3 v4 v6 v7 hF
  intro H locs ls hl hH
  unfold fm_namesBorn_89 at hF
  obtain ⟨x1, ex1⟩ : ∃ z : Int32, z = v7 + 1 := ⟨_, rfl⟩
  have hF := hF x1 ex1
  refine lv_iinc (v := x1) (lv' := [(7, .int x1), (0, .ref o), (1, .int v1), (2, .int v2), (3, .int v3), (4, .int v4), (6, .int v6)]) hx hb dX6_namesBorn_89 hl (k := 6) rfl (by rw [ex1]; rfl) (by decide) rfl (fun ls hl => ?_)
  refine lv_goto (tgt := 19) hx hb dX6_namesBorn_92 (by decide) ?_
  exact hK19 S M v1 v2 v3 v4 v6 x1 hF _ _ _ (lv_sub hl [1, 2, 3, 4, 5, 6, 0] rfl) hH
set_option maxHeartbeats 4000000 in
set_option maxRecDepth 100000 in
theorem wm_namesBorn_49 {p : Program} {l : Launch} {e : Env} {s : State} {m : MethodId} {args : Array Value} {below : List Frame} {meth : Method} {c : Code} {D : va_G} {cI cZ : ClassId} {ad : Nat → Nat} {o : Nat} {Q : (Nat → Int32) → (Nat → Nat → Int32) → Prop} {K7 : (Nat → Int32) → (Nat → Nat → Int32) → Int32 → Int32 → Int32 → Int32 → Int32 → Prop} {K19 : (Nat → Int32) → (Nat → Nat → Int32) → Int32 → Int32 → Int32 → Int32 → Int32 → Int32 → Prop} (X : zm_Cx p s m args meth c cX6_namesBorn 9 none D cI cZ ad o) (hK7 : ∀ (S : Nat → Int32) (M : Nat → Nat → Int32) (v1 : Int32) (v2 : Int32) (v3 : Int32) (v4 : Int32) (v5 : Int32), K7 S M v1 v2 v3 v4 v5 → ∀ (H : Heap) (locs : List Loc) (ls : Array Slot), lv_has ls 9 [(0, .ref o), (1, .int v1), (2, .int v2), (3, .int v3), (4, .int v4), (5, .int v5)] → zm_H D cI cZ ad o S M s H locs → W p l e (zm_R 2) s m args below meth c H locs 0 0 (MQ below (zm_QV Q D cI cZ ad o) args s 0 0 (zm_A ad o)) (F0 m 7 ls [])) (hK19 : ∀ (S : Nat → Int32) (M : Nat → Nat → Int32) (v1 : Int32) (v2 : Int32) (v3 : Int32) (v4 : Int32) (v6 : Int32) (v7 : Int32), K19 S M v1 v2 v3 v4 v6 v7 → ∀ (H : Heap) (locs : List Loc) (ls : Array Slot), lv_has ls 9 [(0, .ref o), (1, .int v1), (2, .int v2), (3, .int v3), (4, .int v4), (6, .int v6), (7, .int v7)] → zm_H D cI cZ ad o S M s H locs → W p l e (zm_R 2) s m args below meth c H locs 0 0 (MQ below (zm_QV Q D cI cZ ad o) args s 0 0 (zm_A ad o)) (F0 m 19 ls [])) :
    ∀ (S : Nat → Int32) (M : Nat → Nat → Int32) (v1 : Int32) (v2 : Int32) (v3 : Int32) (v4 : Int32) (v6 : Int32) (v7 : Int32) (t0 : Int32), fm_namesBorn_49 Q K7 K19 S M v1 v2 v3 v4 v6 v7 t0 → ∀ (H : Heap) (locs : List Loc) (ls : Array Slot), lv_has ls 9 [(0, .ref o), (1, .int v1), (2, .int v2), (3, .int v3), (4, .int v4), (6, .int v6), (7, .int v7)] → zm_H D cI cZ ad o S M s H locs → W p l e (zm_R 2) s m args below meth c H locs 0 0 (MQ below (zm_QV Q D cI cZ ad o) args s 0 0 (zm_A ad o)) (F0 m 49 ls [.int t0]) := by
  have hx := X.1
  have hb := X.2.1
  intro S M v1 v2 v3 v4 v6 v7 t0 hF
  intro H locs ls hl hH
  unfold fm_namesBorn_49 at hF
  refine lv_istore (lv' := [(8, .int t0), (0, .ref o), (1, .int v1), (2, .int v2), (3, .int v3), (4, .int v4), (6, .int v6), (7, .int v7)]) hx hb dX6_namesBorn_49 hl (by decide) rfl (fun ls hl => ?_)
  refine lv_iload hx hb dX6_namesBorn_51 (lv_at hl 0 rfl) ?_
  refine lv_if_eq (tgt := 89) hx hb dX6_namesBorn_53 (by decide) (fun cd => ?_) (fun cd => ?_)
  · have hF := hF.1 cd
    exact wm_namesBorn_89 X hK7 hK19 S M v1 v2 v3 v4 v6 v7 hF _ _ _ (lv_sub hl [1, 2, 3, 4, 5, 6, 7] rfl) hH
  · have hF := hF.2 cd
    refine lv_aload_n hx hb dX6_namesBorn_56 rfl (lv_at hl 1 rfl) ?_
    refine zm_getf X hH 28 (by decide) rfl q1741 dX6_namesBorn_57 ?_
    refine lv_iload hx hb dX6_namesBorn_60 (lv_at hl 7 rfl) ?_
    obtain ⟨hI, hF⟩ := hF
    refine zm_iald X hH 28 (by decide) rfl (n := 150) rfl hI dX6_namesBorn_62 ?_
    refine lv_iload hx hb dX6_namesBorn_63 (lv_at hl 5 rfl) ?_
    refine lv_icmp_le (tgt := 89) hx hb dX6_namesBorn_65 (by decide) (fun cd => ?_) (fun cd => ?_)
    · have hF := hF.1 cd
      exact wm_namesBorn_89 X hK7 hK19 S M v1 v2 v3 v4 v6 v7 hF _ _ _ (lv_sub hl [1, 2, 3, 4, 5, 6, 7] rfl) hH
    · have hF := hF.2 cd
      refine lv_aload_n hx hb dX6_namesBorn_68 rfl (lv_at hl 1 rfl) ?_
      refine zm_getf X hH 28 (by decide) rfl q1741 dX6_namesBorn_69 ?_
      refine lv_iload hx hb dX6_namesBorn_72 (lv_at hl 7 rfl) ?_
      obtain ⟨hI, hF⟩ := hF
      refine zm_iald X hH 28 (by decide) rfl (n := 150) rfl hI dX6_namesBorn_74 ?_
      refine lv_iload hx hb dX6_namesBorn_75 (lv_at hl 6 rfl) ?_
      refine lv_icmp_ge (tgt := 89) hx hb dX6_namesBorn_77 (by decide) (fun cd => ?_) (fun cd => ?_)
      · have hF := hF.1 cd
        exact wm_namesBorn_89 X hK7 hK19 S M v1 v2 v3 v4 v6 v7 hF _ _ _ (lv_sub hl [1, 2, 3, 4, 5, 6, 7] rfl) hH
      · have hF := hF.2 cd
        refine lv_aload_n hx hb dX6_namesBorn_80 rfl (lv_at hl 1 rfl) ?_
        refine zm_getf X hH 28 (by decide) rfl q1741 dX6_namesBorn_81 ?_
        refine lv_iload hx hb dX6_namesBorn_84 (lv_at hl 7 rfl) ?_
        obtain ⟨hI, hF⟩ := hF
        refine zm_iald X hH 28 (by decide) rfl (n := 150) rfl hI dX6_namesBorn_86 ?_
        refine lv_topi (fun x1 ex1 => ?_)
        have hF := hF x1 ex1
        refine lv_istore (lv' := [(6, .int x1), (8, .int t0), (0, .ref o), (1, .int v1), (2, .int v2), (3, .int v3), (4, .int v4), (7, .int v7)]) hx hb dX6_namesBorn_87 hl (by decide) rfl (fun ls hl => ?_)
        exact wm_namesBorn_89 X hK7 hK19 S M v1 v2 v3 v4 x1 v7 hF _ _ _ (lv_sub hl [2, 3, 4, 5, 6, 0, 7] rfl) hH
set_option maxHeartbeats 4000000 in
set_option maxRecDepth 100000 in
theorem wm_namesBorn_19 {p : Program} {l : Launch} {e : Env} {s : State} {m : MethodId} {args : Array Value} {below : List Frame} {meth : Method} {c : Code} {D : va_G} {cI cZ : ClassId} {ad : Nat → Nat} {o : Nat} {Q : (Nat → Int32) → (Nat → Nat → Int32) → Prop} {K7 : (Nat → Int32) → (Nat → Nat → Int32) → Int32 → Int32 → Int32 → Int32 → Int32 → Prop} (X : zm_Cx p s m args meth c cX6_namesBorn 9 none D cI cZ ad o) (hK7 : ∀ (S : Nat → Int32) (M : Nat → Nat → Int32) (v1 : Int32) (v2 : Int32) (v3 : Int32) (v4 : Int32) (v5 : Int32), K7 S M v1 v2 v3 v4 v5 → ∀ (H : Heap) (locs : List Loc) (ls : Array Slot), lv_has ls 9 [(0, .ref o), (1, .int v1), (2, .int v2), (3, .int v3), (4, .int v4), (5, .int v5)] → zm_H D cI cZ ad o S M s H locs → W p l e (zm_R 2) s m args below meth c H locs 0 0 (MQ below (zm_QV Q D cI cZ ad o) args s 0 0 (zm_A ad o)) (F0 m 7 ls [])) :
    ∀ (n : Nat) (S : Nat → Int32) (M : Nat → Nat → Int32) (v1 : Int32) (v2 : Int32) (v3 : Int32) (v4 : Int32) (v6 : Int32) (v7 : Int32), fm_namesBorn_19 Q K7 n S M v1 v2 v3 v4 v6 v7 → ∀ (H : Heap) (locs : List Loc) (ls : Array Slot), lv_has ls 9 [(0, .ref o), (1, .int v1), (2, .int v2), (3, .int v3), (4, .int v4), (6, .int v6), (7, .int v7)] → zm_H D cI cZ ad o S M s H locs → W p l e (zm_R 2) s m args below meth c H locs 0 0 (MQ below (zm_QV Q D cI cZ ad o) args s 0 0 (zm_A ad o)) (F0 m 19 ls []) := by
  have hx := X.1
  have hb := X.2.1
  intro n
  induction n with
  | zero =>
    intro S M v1 v2 v3 v4 v6 v7 hF
    exact False.elim hF
  | succ n ih =>
    intro S M v1 v2 v3 v4 v6 v7 hF
    intro H locs ls hl hH
    unfold fm_namesBorn_19 at hF
    refine lv_iload hx hb dX6_namesBorn_19 (lv_at hl 6 rfl) ?_
    refine lv_aload_n hx hb dX6_namesBorn_21 rfl (lv_at hl 0 rfl) ?_
    refine zm_getf X hH 27 (by decide) rfl q1740 dX6_namesBorn_22 ?_
    refine lv_icmp_ge (tgt := 95) hx hb dX6_namesBorn_25 (by decide) (fun cd => ?_) (fun cd => ?_)
    · have hF := hF.1 cd
      refine lv_iload hx hb dX6_namesBorn_95 (lv_at hl 5 rfl) ?_
      refine lv_ldc (v := 1000000) hx hb X.2.2.2.1 (X.2.2.2.2.1 _ q1986) dX6_namesBorn_97 ?_
      refine lv_icmp_ge (tgt := 106) hx hb dX6_namesBorn_99 (by decide) (fun cd => ?_) (fun cd => ?_)
      · have hF := hF.1 cd
        refine lv_iconst (v := 0) hx hb dX6_namesBorn_106 (by decide) ?_
        exact wm_namesBorn_107 X hK7 S M v1 v2 v3 v6 0 hF _ _ _ (lv_sub hl [0, 1, 2, 3, 5] rfl) hH
      · have hF := hF.2 cd
        refine lv_iconst (v := 1) hx hb dX6_namesBorn_102 (by decide) ?_
        refine lv_goto (tgt := 107) hx hb dX6_namesBorn_103 (by decide) ?_
        exact wm_namesBorn_107 X hK7 S M v1 v2 v3 v6 1 hF _ _ _ (lv_sub hl [0, 1, 2, 3, 5] rfl) hH
    · have hF := hF.2 cd
      refine lv_iload_n hx hb dX6_namesBorn_28 rfl (lv_at hl 3 rfl) ?_
      refine lv_if_ne (tgt := 42) hx hb dX6_namesBorn_29 (by decide) (fun cd => ?_) (fun cd => ?_)
      · have hF := hF.1 cd
        refine lv_aload_n hx hb dX6_namesBorn_42 rfl (lv_at hl 0 rfl) ?_
        refine lv_iload hx hb dX6_namesBorn_43 (lv_at hl 6 rfl) ?_
        refine lv_iload_n hx hb dX6_namesBorn_45 rfl (lv_at hl 2 rfl) ?_
        refine zm_calli (As := [.int v7, .int v2]) (rest := []) X hH (wm_isSibling l D cI cZ ad o X.2.2.2.2.2.2.2.2 S M v7 v2 _ hF) (cwV 2 X.2.2.2.2.1 (lw_V q1991 q1993 qs57 q95 q1994) rfl rfl rfl (by decide +kernel) ⟨Nat.le_of_ble_eq_true rfl, Nat.le_of_ble_eq_true rfl⟩) rfl hl.1 rfl (Nat.le_of_ble_eq_true rfl) dX6_namesBorn_46 (Nat.le_refl 0) (Nat.le_refl 0) (fun r3 S1 M2 H locs hF hH => ?_)
        obtain ⟨hF, e9, e8⟩ := hF; subst e9; subst e8
        exact wm_namesBorn_49 X hK7 ih S M v1 v2 v3 v4 v6 v7 r3 hF _ _ _ (lv_sub hl [0, 1, 2, 3, 4, 5, 6] rfl) hH
      · have hF := hF.2 cd
        refine lv_aload_n hx hb dX6_namesBorn_32 rfl (lv_at hl 0 rfl) ?_
        refine lv_iload_n hx hb dX6_namesBorn_33 rfl (lv_at hl 2 rfl) ?_
        refine lv_iload hx hb dX6_namesBorn_34 (lv_at hl 6 rfl) ?_
        refine zm_calli (As := [.int v2, .int v7]) (rest := []) X hH (wm_isParent l D cI cZ ad o X.2.2.2.2.2.2.2.2 S M v2 v7 _ hF) (cwV 2 X.2.2.2.2.1 (lw_V q1987 q1989 qs56 q95 q1990) rfl rfl rfl (by decide +kernel) ⟨Nat.le_of_ble_eq_true rfl, Nat.le_of_ble_eq_true rfl⟩) rfl hl.1 rfl (Nat.le_of_ble_eq_true rfl) dX6_namesBorn_36 (Nat.le_refl 0) (Nat.le_refl 0) (fun r6 S4 M5 H locs hF hH => ?_)
        obtain ⟨hF, e9, e8⟩ := hF; subst e9; subst e8
        refine lv_goto (tgt := 49) hx hb dX6_namesBorn_39 (by decide) ?_
        exact wm_namesBorn_49 X hK7 ih S M v1 v2 v3 v4 v6 v7 r6 hF _ _ _ (lv_sub hl [0, 1, 2, 3, 4, 5, 6] rfl) hH
set_option maxHeartbeats 4000000 in
set_option maxRecDepth 100000 in
theorem wm_namesBorn_7 {p : Program} {l : Launch} {e : Env} {s : State} {m : MethodId} {args : Array Value} {below : List Frame} {meth : Method} {c : Code} {D : va_G} {cI cZ : ClassId} {ad : Nat → Nat} {o : Nat} {Q : (Nat → Int32) → (Nat → Nat → Int32) → Prop} (X : zm_Cx p s m args meth c cX6_namesBorn 9 none D cI cZ ad o) :
    ∀ (n : Nat) (S : Nat → Int32) (M : Nat → Nat → Int32) (v1 : Int32) (v2 : Int32) (v3 : Int32) (v4 : Int32) (v5 : Int32), fm_namesBorn_7 Q n S M v1 v2 v3 v4 v5 → ∀ (H : Heap) (locs : List Loc) (ls : Array Slot), lv_has ls 9 [(0, .ref o), (1, .int v1), (2, .int v2), (3, .int v3), (4, .int v4), (5, .int v5)] → zm_H D cI cZ ad o S M s H locs → W p l e (zm_R 2) s m args below meth c H locs 0 0 (MQ below (zm_QV Q D cI cZ ad o) args s 0 0 (zm_A ad o)) (F0 m 7 ls []) := by
  have hx := X.1
  have hb := X.2.1
  intro n
  induction n with
  | zero =>
    intro S M v1 v2 v3 v4 v5 hF
    exact False.elim hF
  | succ n ih =>
    intro S M v1 v2 v3 v4 v5 hF
    intro H locs ls hl hH
    unfold fm_namesBorn_7 at hF
    refine lv_iload hx hb dX6_namesBorn_7 (lv_at hl 5 rfl) ?_
    refine lv_if_eq (tgt := 185) hx hb dX6_namesBorn_9 (by decide) (fun cd => ?_) (fun cd => ?_)
    · have hF := hF.1 cd
      exact zm_vret X hH hF dX6_namesBorn_185
    · have hF := hF.2 cd
      refine lv_ldc (v := 1000000) hx hb X.2.2.2.1 (X.2.2.2.2.1 _ q1986) dX6_namesBorn_12 ?_
      refine lv_istore (lv' := [(6, .int 1000000), (0, .ref o), (1, .int v1), (2, .int v2), (3, .int v3), (4, .int v4), (5, .int v5)]) hx hb dX6_namesBorn_14 hl (by decide) rfl (fun ls hl => ?_)
      refine lv_iconst (v := 0) hx hb dX6_namesBorn_16 (by decide) ?_
      refine lv_istore (lv' := [(7, .int 0), (6, .int 1000000), (0, .ref o), (1, .int v1), (2, .int v2), (3, .int v3), (4, .int v4), (5, .int v5)]) hx hb dX6_namesBorn_17 hl (by decide) rfl (fun ls hl => ?_)
      obtain ⟨n9, hF⟩ := hF
      exact wm_namesBorn_19 X ih n9 S M v1 v2 v3 v4 1000000 0 hF _ _ _ (lv_sub hl [2, 3, 4, 5, 6, 1, 0] rfl) hH
set_option maxHeartbeats 4000000 in
set_option maxRecDepth 100000 in
/-- namesBorn: what the bytecode asks is what its run needs -/
theorem wm_namesBorn (l : Launch) (D : va_G) (cI cZ : ClassId) (ad : Nat → Nat) (o : Nat) (hAd : zm_Ad ad o) (S : Nat → Int32) (M : Nat → Nat → Int32) (v1 : Int32) (v2 : Int32) (v3 : Int32) (Q : (Nat → Int32) → (Nat → Nat → Int32) → Prop) (hF : fm_namesBorn S M v1 v2 v3 Q) :
    zm_Mv l yX6_namesBorn (ws_ yX6_namesBorn cX6_namesBorn 9 none) 2 D cI cZ ad o [.int v1, .int v2, .int v3] S M Q := by
  refine zm_ofv rfl hAd (Nat.le_of_ble_eq_true rfl) ?_
  intro p e s m args below meth c H locs ls X hH hl
  have hx := X.1
  have hb := X.2.1
  have hl : lv_has ls 9 [(0, .ref o), (1, .int v1), (2, .int v2), (3, .int v3)] := hl
  unfold fm_namesBorn at hF
  refine lv_ldc (v := (-50000)) hx hb X.2.2.2.1 (X.2.2.2.2.1 _ q1985) dX6_namesBorn_0 ?_
  refine lv_topi (fun x1 ex1 => ?_)
  have hF := hF x1 ex1
  refine lv_istore (lv' := [(4, .int x1), (0, .ref o), (1, .int v1), (2, .int v2), (3, .int v3)]) hx hb dX6_namesBorn_2 hl (by decide) rfl (fun ls hl => ?_)
  refine lv_iconst (v := 1) hx hb dX6_namesBorn_4 (by decide) ?_
  refine lv_istore (lv' := [(5, .int 1), (4, .int x1), (0, .ref o), (1, .int v1), (2, .int v2), (3, .int v3)]) hx hb dX6_namesBorn_5 hl (by decide) rfl (fun ls hl => ?_)
  obtain ⟨n9, hF⟩ := hF
  exact wm_namesBorn_7 X n9 S M v1 v2 v3 x1 1 hF _ _ _ (lv_sub hl [2, 3, 4, 5, 1, 0] rfl) hH
set_option maxHeartbeats 4000000 in
set_option maxRecDepth 100000 in
theorem wm_orders_108 {p : Program} {l : Launch} {e : Env} {s : State} {m : MethodId} {args : Array Value} {below : List Frame} {meth : Method} {c : Code} {D : va_G} {cI cZ : ClassId} {ad : Nat → Nat} {o : Nat} {Q : (Nat → Int32) → (Nat → Nat → Int32) → Prop} (X : zm_Cx p s m args meth c cX6_orders 5 none D cI cZ ad o) :
    ∀ (S : Nat → Int32) (M : Nat → Nat → Int32) (v1 : Int32) (v2 : Int32) (v3 : Int32) (t0 : Int32), fm_orders_108 Q S M v1 v2 v3 t0 → ∀ (H : Heap) (locs : List Loc) (ls : Array Slot), lv_has ls 5 [(0, .ref o), (1, .int v1), (2, .int v2), (3, .int v3)] → zm_H D cI cZ ad o S M s H locs → W p l e (zm_R 3) s m args below meth c H locs 0 0 (MQ below (zm_QV Q D cI cZ ad o) args s 0 0 (zm_A ad o)) (F0 m 108 ls [.int t0]) := by
  have hx := X.1
  have hb := X.2.1
  intro S M v1 v2 v3 t0 hF
  intro H locs ls hl hH
  unfold fm_orders_108 at hF
  refine lv_istore (lv' := [(4, .int t0), (0, .ref o), (1, .int v1), (2, .int v2), (3, .int v3)]) hx hb dX6_orders_108 hl (by decide) rfl (fun ls hl => ?_)
  refine lv_aload_n hx hb dX6_orders_110 rfl (lv_at hl 1 rfl) ?_
  refine lv_iload_n hx hb dX6_orders_111 rfl (lv_at hl 2 rfl) ?_
  refine lv_iload_n hx hb dX6_orders_112 rfl (lv_at hl 4 rfl) ?_
  refine zm_callv (As := [.int v1, .int v3]) (rest := []) X hH (wm_names l D cI cZ ad o X.2.2.2.2.2.2.2.2 S M v1 v3 _ hF) (cwV 2 X.2.2.2.2.1 (lw_V q1977 q1979 qs54 q95 q1980) rfl rfl rfl (by decide +kernel) ⟨Nat.le_of_ble_eq_true rfl, Nat.le_of_ble_eq_true rfl⟩) rfl hl.1 rfl (Nat.le_of_ble_eq_true rfl) dX6_orders_113 (Nat.le_refl 0) (Nat.le_refl 0) (fun S1 M2 H locs hF hH => ?_)
  refine lv_aload_n hx hb dX6_orders_116 rfl (lv_at hl 1 rfl) ?_
  refine lv_iload_n hx hb dX6_orders_117 rfl (lv_at hl 2 rfl) ?_
  refine lv_iload hx hb dX6_orders_118 (lv_at hl 0 rfl) ?_
  refine zm_callv (As := [.int v1, .int t0]) (rest := []) X hH (wm_names l D cI cZ ad o X.2.2.2.2.2.2.2.2 S1 M2 v1 t0 _ hF) (cwV 2 X.2.2.2.2.1 (lw_V q1977 q1979 qs54 q95 q1980) rfl rfl rfl (by decide +kernel) ⟨Nat.le_of_ble_eq_true rfl, Nat.le_of_ble_eq_true rfl⟩) rfl hl.1 rfl (Nat.le_of_ble_eq_true rfl) dX6_orders_120 (Nat.le_refl 0) (Nat.le_refl 0) (fun S4 M5 H locs hF hH => ?_)
  refine lv_aload_n hx hb dX6_orders_123 rfl (lv_at hl 1 rfl) ?_
  refine lv_iload_n hx hb dX6_orders_124 rfl (lv_at hl 2 rfl) ?_
  refine lv_iload_n hx hb dX6_orders_125 rfl (lv_at hl 3 rfl) ?_
  refine lv_iconst (v := 1) hx hb dX6_orders_126 (by decide) ?_
  refine zm_callv (As := [.int v1, .int v2, .int 1]) (rest := []) X hH (wm_namesBorn l D cI cZ ad o X.2.2.2.2.2.2.2.2 S4 M5 v1 v2 1 _ hF) (cwV 3 X.2.2.2.2.1 (lw_V q1981 q1983 qs55 q95 q1984) rfl rfl rfl (by decide +kernel) ⟨Nat.le_of_ble_eq_true rfl, Nat.le_of_ble_eq_true rfl⟩) rfl hl.1 rfl (Nat.le_of_ble_eq_true rfl) dX6_orders_127 (Nat.le_refl 0) (Nat.le_refl 0) (fun S7 M8 H locs hF hH => ?_)
  exact zm_vret X hH hF dX6_orders_130
set_option maxHeartbeats 4000000 in
set_option maxRecDepth 100000 in
theorem wm_orders_82 {p : Program} {l : Launch} {e : Env} {s : State} {m : MethodId} {args : Array Value} {below : List Frame} {meth : Method} {c : Code} {D : va_G} {cI cZ : ClassId} {ad : Nat → Nat} {o : Nat} {Q : (Nat → Int32) → (Nat → Nat → Int32) → Prop} (X : zm_Cx p s m args meth c cX6_orders 5 none D cI cZ ad o) :
    ∀ (S : Nat → Int32) (M : Nat → Nat → Int32) (v1 : Int32) (v2 : Int32) (t0 : Int32), fm_orders_82 Q S M v1 v2 t0 → ∀ (H : Heap) (locs : List Loc) (ls : Array Slot), lv_has ls 5 [(0, .ref o), (1, .int v1), (2, .int v2)] → zm_H D cI cZ ad o S M s H locs → W p l e (zm_R 3) s m args below meth c H locs 0 0 (MQ below (zm_QV Q D cI cZ ad o) args s 0 0 (zm_A ad o)) (F0 m 82 ls [.int t0]) := by
  have hx := X.1
  have hb := X.2.1
  intro S M v1 v2 t0 hF
  intro H locs ls hl hH
  unfold fm_orders_82 at hF
  refine lv_istore_n (lv' := [(3, .int t0), (0, .ref o), (1, .int v1), (2, .int v2)]) hx hb dX6_orders_82 rfl hl (by decide) rfl (fun ls hl => ?_)
  refine lv_iload_n hx hb dX6_orders_83 rfl (lv_at hl 0 rfl) ?_
  refine lv_aload_n hx hb dX6_orders_84 rfl (lv_at hl 1 rfl) ?_
  refine zm_getf X hH 37 (by decide) rfl q1750 dX6_orders_85 ?_
  refine lv_iload_n hx hb dX6_orders_88 rfl (lv_at hl 3 rfl) ?_
  obtain ⟨hI, hF⟩ := hF
  refine zm_iald X hH 37 (by decide) rfl (n := 150) rfl hI dX6_orders_89 ?_
  refine lv_icmp_ne (tgt := 102) hx hb dX6_orders_90 (by decide) (fun cd => ?_) (fun cd => ?_)
  · have hF := hF.1 cd
    refine lv_aload_n hx hb dX6_orders_102 rfl (lv_at hl 1 rfl) ?_
    refine zm_getf X hH 37 (by decide) rfl q1750 dX6_orders_103 ?_
    refine lv_iload_n hx hb dX6_orders_106 rfl (lv_at hl 3 rfl) ?_
    obtain ⟨hI, hF⟩ := hF
    refine zm_iald X hH 37 (by decide) rfl (n := 150) rfl hI dX6_orders_107 ?_
    exact wm_orders_108 X S M v1 v2 t0 (M 37 v2.toNatClampNeg) hF _ _ _ (lv_sub hl [1, 2, 3, 0] rfl) hH
  · have hF := hF.2 cd
    refine lv_aload_n hx hb dX6_orders_93 rfl (lv_at hl 1 rfl) ?_
    refine zm_getf X hH 38 (by decide) rfl q1751 dX6_orders_94 ?_
    refine lv_iload_n hx hb dX6_orders_97 rfl (lv_at hl 3 rfl) ?_
    obtain ⟨hI, hF⟩ := hF
    refine zm_iald X hH 38 (by decide) rfl (n := 150) rfl hI dX6_orders_98 ?_
    refine lv_goto (tgt := 108) hx hb dX6_orders_99 (by decide) ?_
    exact wm_orders_108 X S M v1 v2 t0 (M 38 v2.toNatClampNeg) hF _ _ _ (lv_sub hl [1, 2, 3, 0] rfl) hH
set_option maxHeartbeats 4000000 in
set_option maxRecDepth 100000 in
theorem wm_orders_67 {p : Program} {l : Launch} {e : Env} {s : State} {m : MethodId} {args : Array Value} {below : List Frame} {meth : Method} {c : Code} {D : va_G} {cI cZ : ClassId} {ad : Nat → Nat} {o : Nat} {Q : (Nat → Int32) → (Nat → Nat → Int32) → Prop} (X : zm_Cx p s m args meth c cX6_orders 5 none D cI cZ ad o) :
    ∀ (S : Nat → Int32) (M : Nat → Nat → Int32) (v1 : Int32) (v2 : Int32), fm_orders_67 Q S M v1 v2 → ∀ (H : Heap) (locs : List Loc) (ls : Array Slot), lv_has ls 5 [(0, .ref o), (1, .int v1), (2, .int v2)] → zm_H D cI cZ ad o S M s H locs → W p l e (zm_R 3) s m args below meth c H locs 0 0 (MQ below (zm_QV Q D cI cZ ad o) args s 0 0 (zm_A ad o)) (F0 m 67 ls []) := by
  have hx := X.1
  have hb := X.2.1
  intro S M v1 v2 hF
  intro H locs ls hl hH
  unfold fm_orders_67 at hF
  refine lv_aload_n hx hb dX6_orders_67 rfl (lv_at hl 0 rfl) ?_
  refine zm_getf X hH 37 (by decide) rfl q1750 dX6_orders_68 ?_
  refine lv_iload_n hx hb dX6_orders_71 rfl (lv_at hl 2 rfl) ?_
  obtain ⟨hI, hF⟩ := hF
  refine zm_iald X hH 37 (by decide) rfl (n := 150) rfl hI dX6_orders_72 ?_
  refine lv_goto (tgt := 82) hx hb dX6_orders_73 (by decide) ?_
  exact wm_orders_82 X S M v1 v2 (M 37 v2.toNatClampNeg) hF _ _ _ (lv_sub hl [0, 1, 2] rfl) hH
set_option maxHeartbeats 4000000 in
set_option maxRecDepth 100000 in
/-- orders: what the bytecode asks is what its run needs -/
theorem wm_orders (l : Launch) (D : va_G) (cI cZ : ClassId) (ad : Nat → Nat) (o : Nat) (hAd : zm_Ad ad o) (S : Nat → Int32) (M : Nat → Nat → Int32) (v1 : Int32) (v2 : Int32) (Q : (Nat → Int32) → (Nat → Nat → Int32) → Prop) (hF : fm_orders S M v1 v2 Q) :
    zm_Mv l yX6_orders (ws_ yX6_orders cX6_orders 5 none) 3 D cI cZ ad o [.int v1, .int v2] S M Q := by
  refine zm_ofv rfl hAd (Nat.le_of_ble_eq_true rfl) ?_
  intro p e s m args below meth c H locs ls X hH hl
  have hx := X.1
  have hb := X.2.1
  have hl : lv_has ls 5 [(0, .ref o), (1, .int v1), (2, .int v2)] := hl
  unfold fm_orders at hF
  refine lv_aload_n hx hb dX6_orders_0 rfl (lv_at hl 0 rfl) ?_
  refine zm_getf X hH 22 (by decide) rfl q1735 dX6_orders_1 ?_
  refine lv_iload_n hx hb dX6_orders_4 rfl (lv_at hl 1 rfl) ?_
  refine lv_iconst (v := 0) hx hb dX6_orders_5 (by decide) ?_
  obtain ⟨hI, hF⟩ := hF
  refine zm_iast X hH 22 (by decide) rfl (n := 150) rfl hI dX6_orders_6 (fun M1 H locs eM1 hH => ?_)
  have hF := hF M1 eM1
  refine lv_aload_n hx hb dX6_orders_7 rfl (lv_at hl 0 rfl) ?_
  refine zm_getf X hH 23 (by decide) rfl q1736 dX6_orders_8 ?_
  refine lv_iload_n hx hb dX6_orders_11 rfl (lv_at hl 1 rfl) ?_
  refine lv_iconst (v := 0) hx hb dX6_orders_12 (by decide) ?_
  obtain ⟨hI, hF⟩ := hF
  refine zm_iast X hH 23 (by decide) rfl (n := 150) rfl hI dX6_orders_13 (fun M2 H locs eM2 hH => ?_)
  have hF := hF M2 eM2
  refine lv_aload_n hx hb dX6_orders_14 rfl (lv_at hl 0 rfl) ?_
  refine lv_iload_n hx hb dX6_orders_15 rfl (lv_at hl 1 rfl) ?_
  refine lv_aload_n hx hb dX6_orders_16 rfl (lv_at hl 0 rfl) ?_
  refine zm_getf X hH 39 (by decide) rfl q1752 dX6_orders_17 ?_
  refine lv_iload_n hx hb dX6_orders_20 rfl (lv_at hl 2 rfl) ?_
  obtain ⟨hI, hF⟩ := hF
  refine zm_iald X hH 39 (by decide) rfl (n := 150) rfl hI dX6_orders_21 ?_
  refine zm_callv (As := [.int v1, .int (M2 39 v2.toNatClampNeg)]) (rest := []) X hH (wm_names l D cI cZ ad o X.2.2.2.2.2.2.2.2 S M2 v1 (M2 39 v2.toNatClampNeg) _ hF) (cwV 2 X.2.2.2.2.1 (lw_V q1977 q1979 qs54 q95 q1980) rfl rfl rfl (by decide +kernel) ⟨Nat.le_of_ble_eq_true rfl, Nat.le_of_ble_eq_true rfl⟩) rfl hl.1 rfl (Nat.le_of_ble_eq_true rfl) dX6_orders_22 (Nat.le_refl 0) (Nat.le_refl 0) (fun S3 M4 H locs hF hH => ?_)
  refine lv_aload_n hx hb dX6_orders_25 rfl (lv_at hl 0 rfl) ?_
  refine lv_iload_n hx hb dX6_orders_26 rfl (lv_at hl 1 rfl) ?_
  refine lv_aload_n hx hb dX6_orders_27 rfl (lv_at hl 0 rfl) ?_
  refine zm_getf X hH 36 (by decide) rfl q1749 dX6_orders_28 ?_
  refine lv_iload_n hx hb dX6_orders_31 rfl (lv_at hl 2 rfl) ?_
  obtain ⟨hI, hF⟩ := hF
  refine zm_iald X hH 36 (by decide) rfl (n := 150) rfl hI dX6_orders_32 ?_
  refine zm_callv (As := [.int v1, .int (M4 36 v2.toNatClampNeg)]) (rest := []) X hH (wm_names l D cI cZ ad o X.2.2.2.2.2.2.2.2 S3 M4 v1 (M4 36 v2.toNatClampNeg) _ hF) (cwV 2 X.2.2.2.2.1 (lw_V q1977 q1979 qs54 q95 q1980) rfl rfl rfl (by decide +kernel) ⟨Nat.le_of_ble_eq_true rfl, Nat.le_of_ble_eq_true rfl⟩) rfl hl.1 rfl (Nat.le_of_ble_eq_true rfl) dX6_orders_33 (Nat.le_refl 0) (Nat.le_refl 0) (fun S6 M7 H locs hF hH => ?_)
  refine lv_aload_n hx hb dX6_orders_36 rfl (lv_at hl 0 rfl) ?_
  refine lv_iload_n hx hb dX6_orders_37 rfl (lv_at hl 1 rfl) ?_
  refine lv_iload_n hx hb dX6_orders_38 rfl (lv_at hl 2 rfl) ?_
  refine lv_iconst (v := 0) hx hb dX6_orders_39 (by decide) ?_
  refine zm_callv (As := [.int v1, .int v2, .int 0]) (rest := []) X hH (wm_namesBorn l D cI cZ ad o X.2.2.2.2.2.2.2.2 S6 M7 v1 v2 0 _ hF) (cwV 3 X.2.2.2.2.1 (lw_V q1981 q1983 qs55 q95 q1984) rfl rfl rfl (by decide +kernel) ⟨Nat.le_of_ble_eq_true rfl, Nat.le_of_ble_eq_true rfl⟩) rfl hl.1 rfl (Nat.le_of_ble_eq_true rfl) dX6_orders_40 (Nat.le_refl 0) (Nat.le_refl 0) (fun S9 M10 H locs hF hH => ?_)
  refine lv_aload_n hx hb dX6_orders_43 rfl (lv_at hl 0 rfl) ?_
  refine zm_getf X hH 37 (by decide) rfl q1750 dX6_orders_44 ?_
  refine lv_iload_n hx hb dX6_orders_47 rfl (lv_at hl 2 rfl) ?_
  obtain ⟨hI, hF⟩ := hF
  refine zm_iald X hH 37 (by decide) rfl (n := 150) rfl hI dX6_orders_48 ?_
  refine lv_aload_n hx hb dX6_orders_49 rfl (lv_at hl 0 rfl) ?_
  refine zm_getf X hH 38 (by decide) rfl q1751 dX6_orders_50 ?_
  refine lv_iload_n hx hb dX6_orders_53 rfl (lv_at hl 2 rfl) ?_
  obtain ⟨hI, hF⟩ := hF
  refine zm_iald X hH 38 (by decide) rfl (n := 150) rfl hI dX6_orders_54 ?_
  refine lv_icmp_lt (tgt := 67) hx hb dX6_orders_55 (by decide) (fun cd => ?_) (fun cd => ?_)
  · have hF := hF.1 cd
    exact wm_orders_67 X S9 M10 v1 v2 hF _ _ _ (lv_sub hl [0, 1, 2] rfl) hH
  · have hF := hF.2 cd
    refine lv_aload_n hx hb dX6_orders_58 rfl (lv_at hl 0 rfl) ?_
    refine zm_getf X hH 38 (by decide) rfl q1751 dX6_orders_59 ?_
    refine lv_iload_n hx hb dX6_orders_62 rfl (lv_at hl 2 rfl) ?_
    obtain ⟨hI, hF⟩ := hF
    refine zm_iald X hH 38 (by decide) rfl (n := 150) rfl hI dX6_orders_63 ?_
    refine lv_if_ge (tgt := 76) hx hb dX6_orders_64 (by decide) (fun cd => ?_) (fun cd => ?_)
    · have hF := hF.1 cd
      refine lv_aload_n hx hb dX6_orders_76 rfl (lv_at hl 0 rfl) ?_
      refine zm_getf X hH 38 (by decide) rfl q1751 dX6_orders_77 ?_
      refine lv_iload_n hx hb dX6_orders_80 rfl (lv_at hl 2 rfl) ?_
      obtain ⟨hI, hF⟩ := hF
      refine zm_iald X hH 38 (by decide) rfl (n := 150) rfl hI dX6_orders_81 ?_
      exact wm_orders_82 X S9 M10 v1 v2 (M10 38 v2.toNatClampNeg) hF _ _ _ (lv_sub hl [0, 1, 2] rfl) hH
    · have hF := hF.2 cd
      exact wm_orders_67 X S9 M10 v1 v2 hF _ _ _ (lv_sub hl [0, 1, 2] rfl) hH
set_option maxHeartbeats 4000000 in
set_option maxRecDepth 100000 in
theorem wm_offers_128 {p : Program} {l : Launch} {e : Env} {s : State} {m : MethodId} {args : Array Value} {below : List Frame} {meth : Method} {c : Code} {D : va_G} {cI cZ : ClassId} {ad : Nat → Nat} {o : Nat} {Q : (Nat → Int32) → (Nat → Nat → Int32) → Prop} (X : zm_Cx p s m args meth c cX6_offers 3 none D cI cZ ad o) :
    ∀ (S : Nat → Int32) (M : Nat → Nat → Int32) (t1 : Int32) (t2 : Int32), fm_offers_128 Q S M t1 t2 → ∀ (H : Heap) (locs : List Loc) (ls : Array Slot), lv_has ls 3 [(0, .ref o)] → zm_H D cI cZ ad o S M s H locs → W p l e (zm_R 0) s m args below meth c H locs 0 0 (MQ below (zm_QV Q D cI cZ ad o) args s 0 0 (zm_A ad o)) (F0 m 128 ls [.int t2, .int t1, .ref (ad 15)]) := by
  have hx := X.1
  have hb := X.2.1
  intro S M t1 t2 hF
  intro H locs ls hl hH
  unfold fm_offers_128 at hF
  obtain ⟨hI, hF⟩ := hF
  refine zm_iast X hH 15 (by decide) rfl (n := 150) rfl hI dX6_offers_128 (fun M1 H locs eM1 hH => ?_)
  have hF := hF M1 eM1
  exact zm_vret X hH hF dX6_offers_129
set_option maxHeartbeats 4000000 in
set_option maxRecDepth 100000 in
theorem wm_offers_104 {p : Program} {l : Launch} {e : Env} {s : State} {m : MethodId} {args : Array Value} {below : List Frame} {meth : Method} {c : Code} {D : va_G} {cI cZ : ClassId} {ad : Nat → Nat} {o : Nat} {Q : (Nat → Int32) → (Nat → Nat → Int32) → Prop} (X : zm_Cx p s m args meth c cX6_offers 3 none D cI cZ ad o) :
    ∀ (S : Nat → Int32) (M : Nat → Nat → Int32) (v1 : Int32) (v2 : Int32) (t1 : Int32) (t2 : Int32), fm_offers_104 Q S M v1 v2 t1 t2 → ∀ (H : Heap) (locs : List Loc) (ls : Array Slot), lv_has ls 3 [(0, .ref o), (1, .int v1), (2, .int v2)] → zm_H D cI cZ ad o S M s H locs → W p l e (zm_R 0) s m args below meth c H locs 0 0 (MQ below (zm_QV Q D cI cZ ad o) args s 0 0 (zm_A ad o)) (F0 m 104 ls [.int t2, .int t1, .ref (ad 14)]) := by
  have hx := X.1
  have hb := X.2.1
  intro S M v1 v2 t1 t2 hF
  intro H locs ls hl hH
  unfold fm_offers_104 at hF
  obtain ⟨hI, hF⟩ := hF
  refine zm_iast X hH 14 (by decide) rfl (n := 150) rfl hI dX6_offers_104 (fun M1 H locs eM1 hH => ?_)
  have hF := hF M1 eM1
  refine lv_aload_n hx hb dX6_offers_105 rfl (lv_at hl 0 rfl) ?_
  refine zm_getf X hH 15 (by decide) rfl q1728 dX6_offers_106 ?_
  refine lv_iload_n hx hb dX6_offers_109 rfl (lv_at hl 1 rfl) ?_
  refine lv_iload_n hx hb dX6_offers_110 rfl (lv_at hl 2 rfl) ?_
  refine lv_if_eq (tgt := 124) hx hb dX6_offers_111 (by decide) (fun cd => ?_) (fun cd => ?_)
  · have hF := hF.1 cd
    refine lv_aload_n hx hb dX6_offers_124 rfl (lv_at hl 0 rfl) ?_
    refine zm_getf X hH 1 (by decide) rfl q1714 dX6_offers_125 ?_
    exact wm_offers_128 X S M1 v1 (S 1) hF _ _ _ (lv_sub hl [0] rfl) hH
  · have hF := hF.2 cd
    refine lv_aload_n hx hb dX6_offers_114 rfl (lv_at hl 0 rfl) ?_
    refine zm_getf X hH 1 (by decide) rfl q1714 dX6_offers_115 ?_
    refine lv_bipush (v := 60) hx hb dX6_offers_118 (by decide) ?_
    refine lv_iadd hx hb dX6_offers_120 ?_
    refine lv_goto (tgt := 128) hx hb dX6_offers_121 (by decide) ?_
    exact wm_offers_128 X S M1 v1 ((S 1) + 60) hF _ _ _ (lv_sub hl [0] rfl) hH
set_option maxHeartbeats 4000000 in
set_option maxRecDepth 100000 in
theorem wm_offers_73 {p : Program} {l : Launch} {e : Env} {s : State} {m : MethodId} {args : Array Value} {below : List Frame} {meth : Method} {c : Code} {D : va_G} {cI cZ : ClassId} {ad : Nat → Nat} {o : Nat} {Q : (Nat → Int32) → (Nat → Nat → Int32) → Prop} (X : zm_Cx p s m args meth c cX6_offers 3 none D cI cZ ad o) :
    ∀ (S : Nat → Int32) (M : Nat → Nat → Int32) (v1 : Int32) (t0 : Int32), fm_offers_73 Q S M v1 t0 → ∀ (H : Heap) (locs : List Loc) (ls : Array Slot), lv_has ls 3 [(0, .ref o), (1, .int v1)] → zm_H D cI cZ ad o S M s H locs → W p l e (zm_R 0) s m args below meth c H locs 0 0 (MQ below (zm_QV Q D cI cZ ad o) args s 0 0 (zm_A ad o)) (F0 m 73 ls [.int t0]) := by
  have hx := X.1
  have hb := X.2.1
  intro S M v1 t0 hF
  intro H locs ls hl hH
  unfold fm_offers_73 at hF
  refine lv_istore_n (lv' := [(2, .int t0), (0, .ref o), (1, .int v1)]) hx hb dX6_offers_73 rfl hl (by decide) rfl (fun ls hl => ?_)
  refine lv_aload_n hx hb dX6_offers_74 rfl (lv_at hl 1 rfl) ?_
  refine zm_getf X hH 14 (by decide) rfl q1727 dX6_offers_75 ?_
  refine lv_iload_n hx hb dX6_offers_78 rfl (lv_at hl 2 rfl) ?_
  refine lv_iload_n hx hb dX6_offers_79 rfl (lv_at hl 0 rfl) ?_
  refine lv_if_eq (tgt := 103) hx hb dX6_offers_80 (by decide) (fun cd => ?_) (fun cd => ?_)
  · have hF := hF.1 cd
    refine lv_iconst (v := (-1)) hx hb dX6_offers_103 (by decide) ?_
    exact wm_offers_104 X S M v1 t0 v1 (-1) hF _ _ _ (lv_sub hl [1, 2, 0] rfl) hH
  · have hF := hF.2 cd
    refine lv_aload_n hx hb dX6_offers_83 rfl (lv_at hl 1 rfl) ?_
    refine zm_getf X hH 21 (by decide) rfl q1734 dX6_offers_84 ?_
    refine lv_sipush (v := 150) hx hb dX6_offers_87 (by decide) ?_
    refine lv_iload_n hx hb dX6_offers_90 rfl (lv_at hl 2 rfl) ?_
    refine lv_imul hx hb dX6_offers_91 ?_
    refine lv_aload_n hx hb dX6_offers_92 rfl (lv_at hl 1 rfl) ?_
    refine zm_getf X hH 23 (by decide) rfl q1736 dX6_offers_93 ?_
    refine lv_iload_n hx hb dX6_offers_96 rfl (lv_at hl 2 rfl) ?_
    obtain ⟨hI, hF⟩ := hF
    refine zm_iald X hH 23 (by decide) rfl (n := 150) rfl hI dX6_offers_97 ?_
    refine lv_iadd hx hb dX6_offers_98 ?_
    obtain ⟨hI, hF⟩ := hF
    refine zm_iald X hH 21 (by decide) rfl (n := 22500) rfl hI dX6_offers_99 ?_
    refine lv_goto (tgt := 104) hx hb dX6_offers_100 (by decide) ?_
    exact wm_offers_104 X S M v1 t0 v1 (M 21 ((150 * v1) + (M 23 v1.toNatClampNeg)).toNatClampNeg) hF _ _ _ (lv_sub hl [1, 2, 0] rfl) hH
set_option maxHeartbeats 4000000 in
set_option maxRecDepth 100000 in
theorem wm_offers_53 {p : Program} {l : Launch} {e : Env} {s : State} {m : MethodId} {args : Array Value} {below : List Frame} {meth : Method} {c : Code} {D : va_G} {cI cZ : ClassId} {ad : Nat → Nat} {o : Nat} {Q : (Nat → Int32) → (Nat → Nat → Int32) → Prop} (X : zm_Cx p s m args meth c cX6_offers 3 none D cI cZ ad o) :
    ∀ (S : Nat → Int32) (M : Nat → Nat → Int32) (v1 : Int32), fm_offers_53 Q S M v1 → ∀ (H : Heap) (locs : List Loc) (ls : Array Slot), lv_has ls 3 [(0, .ref o), (1, .int v1)] → zm_H D cI cZ ad o S M s H locs → W p l e (zm_R 0) s m args below meth c H locs 0 0 (MQ below (zm_QV Q D cI cZ ad o) args s 0 0 (zm_A ad o)) (F0 m 53 ls []) := by
  have hx := X.1
  have hb := X.2.1
  intro S M v1 hF
  intro H locs ls hl hH
  unfold fm_offers_53 at hF
  refine lv_aload_n hx hb dX6_offers_53 rfl (lv_at hl 0 rfl) ?_
  refine zm_getf X hH 23 (by decide) rfl q1736 dX6_offers_54 ?_
  refine lv_iload_n hx hb dX6_offers_57 rfl (lv_at hl 1 rfl) ?_
  obtain ⟨hI, hF⟩ := hF
  refine zm_iald X hH 23 (by decide) rfl (n := 150) rfl hI dX6_offers_58 ?_
  refine lv_aload_n hx hb dX6_offers_59 rfl (lv_at hl 0 rfl) ?_
  refine zm_getf X hH 22 (by decide) rfl q1735 dX6_offers_60 ?_
  refine lv_iload_n hx hb dX6_offers_63 rfl (lv_at hl 1 rfl) ?_
  obtain ⟨hI, hF⟩ := hF
  refine zm_iald X hH 22 (by decide) rfl (n := 150) rfl hI dX6_offers_64 ?_
  refine lv_icmp_ge (tgt := 72) hx hb dX6_offers_65 (by decide) (fun cd => ?_) (fun cd => ?_)
  · have hF := hF.1 cd
    refine lv_iconst (v := 0) hx hb dX6_offers_72 (by decide) ?_
    exact wm_offers_73 X S M v1 0 hF _ _ _ (lv_sub hl [0, 1] rfl) hH
  · have hF := hF.2 cd
    refine lv_iconst (v := 1) hx hb dX6_offers_68 (by decide) ?_
    refine lv_goto (tgt := 73) hx hb dX6_offers_69 (by decide) ?_
    exact wm_offers_73 X S M v1 1 hF _ _ _ (lv_sub hl [0, 1] rfl) hH
set_option maxHeartbeats 4000000 in
set_option maxRecDepth 100000 in
theorem wm_offers_0 {p : Program} {l : Launch} {e : Env} {s : State} {m : MethodId} {args : Array Value} {below : List Frame} {meth : Method} {c : Code} {D : va_G} {cI cZ : ClassId} {ad : Nat → Nat} {o : Nat} {Q : (Nat → Int32) → (Nat → Nat → Int32) → Prop} (X : zm_Cx p s m args meth c cX6_offers 3 none D cI cZ ad o) :
    ∀ (n : Nat) (S : Nat → Int32) (M : Nat → Nat → Int32) (v1 : Int32), fm_offers_0 Q n S M v1 → ∀ (H : Heap) (locs : List Loc) (ls : Array Slot), lv_has ls 3 [(0, .ref o), (1, .int v1)] → zm_H D cI cZ ad o S M s H locs → W p l e (zm_R 0) s m args below meth c H locs 0 0 (MQ below (zm_QV Q D cI cZ ad o) args s 0 0 (zm_A ad o)) (F0 m 0 ls []) := by
  have hx := X.1
  have hb := X.2.1
  intro n
  induction n with
  | zero =>
    intro S M v1 hF
    exact False.elim hF
  | succ n ih =>
    intro S M v1 hF
    intro H locs ls hl hH
    unfold fm_offers_0 at hF
    refine lv_aload_n hx hb dX6_offers_0 rfl (lv_at hl 0 rfl) ?_
    refine zm_getf X hH 23 (by decide) rfl q1736 dX6_offers_1 ?_
    refine lv_iload_n hx hb dX6_offers_4 rfl (lv_at hl 1 rfl) ?_
    obtain ⟨hI, hF⟩ := hF
    refine zm_iald X hH 23 (by decide) rfl (n := 150) rfl hI dX6_offers_5 ?_
    refine lv_aload_n hx hb dX6_offers_6 rfl (lv_at hl 0 rfl) ?_
    refine zm_getf X hH 22 (by decide) rfl q1735 dX6_offers_7 ?_
    refine lv_iload_n hx hb dX6_offers_10 rfl (lv_at hl 1 rfl) ?_
    obtain ⟨hI, hF⟩ := hF
    refine zm_iald X hH 22 (by decide) rfl (n := 150) rfl hI dX6_offers_11 ?_
    refine lv_icmp_ge (tgt := 53) hx hb dX6_offers_12 (by decide) (fun cd => ?_) (fun cd => ?_)
    · have hF := hF.1 cd
      exact wm_offers_53 X S M v1 hF _ _ _ (lv_sub hl [0, 1] rfl) hH
    · have hF := hF.2 cd
      refine lv_aload_n hx hb dX6_offers_15 rfl (lv_at hl 0 rfl) ?_
      refine zm_getf X hH 29 (by decide) rfl q1742 dX6_offers_16 ?_
      refine lv_aload_n hx hb dX6_offers_19 rfl (lv_at hl 0 rfl) ?_
      refine zm_getf X hH 21 (by decide) rfl q1734 dX6_offers_20 ?_
      refine lv_sipush (v := 150) hx hb dX6_offers_23 (by decide) ?_
      refine lv_iload_n hx hb dX6_offers_26 rfl (lv_at hl 1 rfl) ?_
      refine lv_imul hx hb dX6_offers_27 ?_
      refine lv_aload_n hx hb dX6_offers_28 rfl (lv_at hl 0 rfl) ?_
      refine zm_getf X hH 23 (by decide) rfl q1736 dX6_offers_29 ?_
      refine lv_iload_n hx hb dX6_offers_32 rfl (lv_at hl 1 rfl) ?_
      obtain ⟨hI, hF⟩ := hF
      refine zm_iald X hH 23 (by decide) rfl (n := 150) rfl hI dX6_offers_33 ?_
      refine lv_iadd hx hb dX6_offers_34 ?_
      obtain ⟨hI, hF⟩ := hF
      refine zm_iald X hH 21 (by decide) rfl (n := 22500) rfl hI dX6_offers_35 ?_
      obtain ⟨hI, hF⟩ := hF
      refine zm_zald X hH 29 (by decide) rfl (n := 150) rfl hI dX6_offers_36 ?_
      refine lv_if_eq (tgt := 53) hx hb dX6_offers_37 (by decide) (fun cd => ?_) (fun cd => ?_)
      · have hF := hF.1 cd
        exact wm_offers_53 X S M v1 hF _ _ _ (lv_sub hl [0, 1] rfl) hH
      · have hF := hF.2 cd
        refine lv_aload_n hx hb dX6_offers_40 rfl (lv_at hl 0 rfl) ?_
        refine zm_getf X hH 23 (by decide) rfl q1736 dX6_offers_41 ?_
        refine lv_iload_n hx hb dX6_offers_44 rfl (lv_at hl 1 rfl) ?_
        refine lv_dup2_11 hx hb dX6_offers_45 rfl rfl ?_
        obtain ⟨hI, hF⟩ := hF
        refine zm_iald X hH 23 (by decide) rfl (n := 150) rfl hI dX6_offers_46 ?_
        refine lv_iconst (v := 1) hx hb dX6_offers_47 (by decide) ?_
        refine lv_iadd hx hb dX6_offers_48 ?_
        obtain ⟨hI, hF⟩ := hF
        refine zm_iast X hH 23 (by decide) rfl (n := 150) rfl hI dX6_offers_49 (fun M1 H locs eM1 hH => ?_)
        have hF := hF M1 eM1
        refine lv_goto (tgt := 0) hx hb dX6_offers_50 (by decide) ?_
        exact ih S M1 v1 hF _ _ _ (lv_sub hl [0, 1] rfl) hH
set_option maxHeartbeats 4000000 in
set_option maxRecDepth 100000 in
/-- offers: what the bytecode asks is what its run needs -/
theorem wm_offers (l : Launch) (D : va_G) (cI cZ : ClassId) (ad : Nat → Nat) (o : Nat) (hAd : zm_Ad ad o) (S : Nat → Int32) (M : Nat → Nat → Int32) (v1 : Int32) (Q : (Nat → Int32) → (Nat → Nat → Int32) → Prop) (hF : fm_offers S M v1 Q) :
    zm_Mv l yX6_offers (ws_ yX6_offers cX6_offers 3 none) 0 D cI cZ ad o [.int v1] S M Q := by
  refine zm_ofv rfl hAd (Nat.le_of_ble_eq_true rfl) ?_
  intro p e s m args below meth c H locs ls X hH hl
  have hx := X.1
  have hb := X.2.1
  have hl : lv_has ls 3 [(0, .ref o), (1, .int v1)] := hl
  unfold fm_offers at hF
  obtain ⟨n9, hF⟩ := hF
  exact wm_offers_0 X n9 S M v1 hF _ _ _ (lv_sub hl [0, 1] rfl) hH
set_option maxHeartbeats 4000000 in
set_option maxRecDepth 100000 in
/-- passOn: what the bytecode asks is what its run needs -/
theorem wm_passOn (l : Launch) (D : va_G) (cI cZ : ClassId) (ad : Nat → Nat) (o : Nat) (hAd : zm_Ad ad o) (S : Nat → Int32) (M : Nat → Nat → Int32) (v1 : Int32) (Q : (Nat → Int32) → (Nat → Nat → Int32) → Prop) (hF : fm_passOn S M v1 Q) :
    zm_Mv l yX6_passOn (ws_ yX6_passOn cX6_passOn 2 none) 1 D cI cZ ad o [.int v1] S M Q := by
  refine zm_ofv rfl hAd (Nat.le_of_ble_eq_true rfl) ?_
  intro p e s m args below meth c H locs ls X hH hl
  have hx := X.1
  have hb := X.2.1
  have hl : lv_has ls 2 [(0, .ref o), (1, .int v1)] := hl
  unfold fm_passOn at hF
  refine lv_aload_n hx hb dX6_passOn_0 rfl (lv_at hl 0 rfl) ?_
  refine zm_getf X hH 23 (by decide) rfl q1736 dX6_passOn_1 ?_
  refine lv_iload_n hx hb dX6_passOn_4 rfl (lv_at hl 1 rfl) ?_
  refine lv_dup2_11 hx hb dX6_passOn_5 rfl rfl ?_
  obtain ⟨hI, hF⟩ := hF
  refine zm_iald X hH 23 (by decide) rfl (n := 150) rfl hI dX6_passOn_6 ?_
  refine lv_iconst (v := 1) hx hb dX6_passOn_7 (by decide) ?_
  refine lv_iadd hx hb dX6_passOn_8 ?_
  obtain ⟨hI, hF⟩ := hF
  refine zm_iast X hH 23 (by decide) rfl (n := 150) rfl hI dX6_passOn_9 (fun M1 H locs eM1 hH => ?_)
  have hF := hF M1 eM1
  refine lv_aload_n hx hb dX6_passOn_10 rfl (lv_at hl 0 rfl) ?_
  refine lv_iload_n hx hb dX6_passOn_11 rfl (lv_at hl 1 rfl) ?_
  refine zm_callv (As := [.int v1]) (rest := []) X hH (wm_offers l D cI cZ ad o X.2.2.2.2.2.2.2.2 S M1 v1 _ hF) (cwV 1 X.2.2.2.2.1 (lw_V q1995 q1997 qs58 q95 q1998) rfl rfl rfl (by decide +kernel) ⟨Nat.le_of_ble_eq_true rfl, Nat.le_of_ble_eq_true rfl⟩) rfl hl.1 rfl (Nat.le_of_ble_eq_true rfl) dX6_passOn_12 (Nat.le_refl 0) (Nat.le_refl 0) (fun S2 M3 H locs hF hH => ?_)
  exact zm_vret X hH hF dX6_passOn_15
set_option maxHeartbeats 4000000 in
set_option maxRecDepth 100000 in
theorem wm_actDies_130 {p : Program} {l : Launch} {e : Env} {s : State} {m : MethodId} {args : Array Value} {below : List Frame} {meth : Method} {c : Code} {D : va_G} {cI cZ : ClassId} {ad : Nat → Nat} {o : Nat} {Q : Int32 → (Nat → Int32) → (Nat → Nat → Int32) → Prop} {K97 : (Nat → Int32) → (Nat → Nat → Int32) → Int32 → Int32 → Int32 → Prop} (X : zm_Cx p s m args meth c cX6_actDies 4 (some .int) D cI cZ ad o) (hK97 : ∀ (S : Nat → Int32) (M : Nat → Nat → Int32) (v1 : Int32) (v2 : Int32) (v3 : Int32), K97 S M v1 v2 v3 → ∀ (H : Heap) (locs : List Loc) (ls : Array Slot), lv_has ls 4 [(0, .ref o), (1, .int v1), (2, .int v2), (3, .int v3)] → zm_H D cI cZ ad o S M s H locs → W p l e (zm_R 4) s m args below meth c H locs 0 0 (MQ below (zm_QS Q D cI cZ ad o) args s 0 0 (zm_A ad o)) (F0 m 97 ls [])) :
    ∀ (S : Nat → Int32) (M : Nat → Nat → Int32) (v1 : Int32) (v2 : Int32) (v3 : Int32), fm_actDies_130 Q K97 S M v1 v2 v3 → ∀ (H : Heap) (locs : List Loc) (ls : Array Slot), lv_has ls 4 [(0, .ref o), (1, .int v1), (2, .int v2), (3, .int v3)] → zm_H D cI cZ ad o S M s H locs → W p l e (zm_R 4) s m args below meth c H locs 0 0 (MQ below (zm_QS Q D cI cZ ad o) args s 0 0 (zm_A ad o)) (F0 m 130 ls []) := by
  have hx := X.1
  have hb := X.2.1
  intro S M v1 v2 v3 hF
  intro H locs ls hl hH
  unfold fm_actDies_130 at hF
  obtain ⟨x1, ex1⟩ : ∃ z : Int32, z = v3 + 1 := ⟨_, rfl⟩
  have hF := hF x1 ex1
  refine lv_iinc (v := x1) (lv' := [(3, .int x1), (0, .ref o), (1, .int v1), (2, .int v2)]) hx hb dX6_actDies_130 hl (k := 3) rfl (by rw [ex1]; rfl) (by decide) rfl (fun ls hl => ?_)
  refine lv_goto (tgt := 97) hx hb dX6_actDies_133 (by decide) ?_
  exact hK97 S M v1 v2 x1 hF _ _ _ (lv_sub hl [1, 2, 3, 0] rfl) hH
set_option maxHeartbeats 4000000 in
set_option maxRecDepth 100000 in
theorem wm_actDies_97 {p : Program} {l : Launch} {e : Env} {s : State} {m : MethodId} {args : Array Value} {below : List Frame} {meth : Method} {c : Code} {D : va_G} {cI cZ : ClassId} {ad : Nat → Nat} {o : Nat} {Q : Int32 → (Nat → Int32) → (Nat → Nat → Int32) → Prop} (X : zm_Cx p s m args meth c cX6_actDies 4 (some .int) D cI cZ ad o) :
    ∀ (n : Nat) (S : Nat → Int32) (M : Nat → Nat → Int32) (v1 : Int32) (v2 : Int32) (v3 : Int32), fm_actDies_97 Q n S M v1 v2 v3 → ∀ (H : Heap) (locs : List Loc) (ls : Array Slot), lv_has ls 4 [(0, .ref o), (1, .int v1), (2, .int v2), (3, .int v3)] → zm_H D cI cZ ad o S M s H locs → W p l e (zm_R 4) s m args below meth c H locs 0 0 (MQ below (zm_QS Q D cI cZ ad o) args s 0 0 (zm_A ad o)) (F0 m 97 ls []) := by
  have hx := X.1
  have hb := X.2.1
  intro n
  induction n with
  | zero =>
    intro S M v1 v2 v3 hF
    exact False.elim hF
  | succ n ih =>
    intro S M v1 v2 v3 hF
    intro H locs ls hl hH
    unfold fm_actDies_97 at hF
    refine lv_iload_n hx hb dX6_actDies_97 rfl (lv_at hl 3 rfl) ?_
    refine lv_aload_n hx hb dX6_actDies_98 rfl (lv_at hl 0 rfl) ?_
    refine zm_getf X hH 9 (by decide) rfl q1722 dX6_actDies_99 ?_
    refine lv_icmp_ge (tgt := 136) hx hb dX6_actDies_102 (by decide) (fun cd => ?_) (fun cd => ?_)
    · have hF := hF.1 cd
      refine lv_iload_n hx hb dX6_actDies_136 rfl (lv_at hl 2 rfl) ?_
      exact zm_iret X hH rfl rfl hF dX6_actDies_137
    · have hF := hF.2 cd
      refine lv_aload_n hx hb dX6_actDies_105 rfl (lv_at hl 0 rfl) ?_
      refine zm_getf X hH 11 (by decide) rfl q1724 dX6_actDies_106 ?_
      refine lv_iload_n hx hb dX6_actDies_109 rfl (lv_at hl 3 rfl) ?_
      obtain ⟨hI, hF⟩ := hF
      refine zm_iald X hH 11 (by decide) rfl (n := 150) rfl hI dX6_actDies_110 ?_
      refine lv_iconst (v := 2) hx hb dX6_actDies_111 (by decide) ?_
      refine lv_icmp_ne (tgt := 130) hx hb dX6_actDies_112 (by decide) (fun cd => ?_) (fun cd => ?_)
      · have hF := hF.1 cd
        exact wm_actDies_130 X ih S M v1 v2 v3 hF _ _ _ (lv_sub hl [0, 1, 2, 3] rfl) hH
      · have hF := hF.2 cd
        refine lv_aload_n hx hb dX6_actDies_115 rfl (lv_at hl 0 rfl) ?_
        refine zm_getf X hH 14 (by decide) rfl q1727 dX6_actDies_116 ?_
        refine lv_iload_n hx hb dX6_actDies_119 rfl (lv_at hl 3 rfl) ?_
        obtain ⟨hI, hF⟩ := hF
        refine zm_iald X hH 14 (by decide) rfl (n := 150) rfl hI dX6_actDies_120 ?_
        refine lv_iload_n hx hb dX6_actDies_121 rfl (lv_at hl 1 rfl) ?_
        refine lv_icmp_ne (tgt := 130) hx hb dX6_actDies_122 (by decide) (fun cd => ?_) (fun cd => ?_)
        · have hF := hF.1 cd
          exact wm_actDies_130 X ih S M v1 v2 v3 hF _ _ _ (lv_sub hl [0, 1, 2, 3] rfl) hH
        · have hF := hF.2 cd
          refine lv_aload_n hx hb dX6_actDies_125 rfl (lv_at hl 0 rfl) ?_
          refine lv_iload_n hx hb dX6_actDies_126 rfl (lv_at hl 3 rfl) ?_
          refine zm_callv (As := [.int v3]) (rest := []) X hH (wm_passOn l D cI cZ ad o X.2.2.2.2.2.2.2.2 S M v3 _ hF) (cwV 1 X.2.2.2.2.1 (lw_V q1999 q2001 qs59 q95 q2002) rfl rfl rfl (by decide +kernel) ⟨Nat.le_of_ble_eq_true rfl, Nat.le_of_ble_eq_true rfl⟩) rfl hl.1 rfl (Nat.le_of_ble_eq_true rfl) dX6_actDies_127 (Nat.le_refl 0) (Nat.le_refl 0) (fun S1 M2 H locs hF hH => ?_)
          exact wm_actDies_130 X ih S1 M2 v1 v2 v3 hF _ _ _ (lv_sub hl [0, 1, 2, 3] rfl) hH
set_option maxHeartbeats 4000000 in
set_option maxRecDepth 100000 in
theorem wm_actDies_89 {p : Program} {l : Launch} {e : Env} {s : State} {m : MethodId} {args : Array Value} {below : List Frame} {meth : Method} {c : Code} {D : va_G} {cI cZ : ClassId} {ad : Nat → Nat} {o : Nat} {Q : Int32 → (Nat → Int32) → (Nat → Nat → Int32) → Prop} {K37 : (Nat → Int32) → (Nat → Nat → Int32) → Int32 → Int32 → Int32 → Prop} (X : zm_Cx p s m args meth c cX6_actDies 4 (some .int) D cI cZ ad o) (hK37 : ∀ (S : Nat → Int32) (M : Nat → Nat → Int32) (v1 : Int32) (v2 : Int32) (v3 : Int32), K37 S M v1 v2 v3 → ∀ (H : Heap) (locs : List Loc) (ls : Array Slot), lv_has ls 4 [(0, .ref o), (1, .int v1), (2, .int v2), (3, .int v3)] → zm_H D cI cZ ad o S M s H locs → W p l e (zm_R 4) s m args below meth c H locs 0 0 (MQ below (zm_QS Q D cI cZ ad o) args s 0 0 (zm_A ad o)) (F0 m 37 ls [])) :
    ∀ (S : Nat → Int32) (M : Nat → Nat → Int32) (v1 : Int32) (v2 : Int32) (v3 : Int32), fm_actDies_89 Q K37 S M v1 v2 v3 → ∀ (H : Heap) (locs : List Loc) (ls : Array Slot), lv_has ls 4 [(0, .ref o), (1, .int v1), (2, .int v2), (3, .int v3)] → zm_H D cI cZ ad o S M s H locs → W p l e (zm_R 4) s m args below meth c H locs 0 0 (MQ below (zm_QS Q D cI cZ ad o) args s 0 0 (zm_A ad o)) (F0 m 89 ls []) := by
  have hx := X.1
  have hb := X.2.1
  intro S M v1 v2 v3 hF
  intro H locs ls hl hH
  unfold fm_actDies_89 at hF
  obtain ⟨x1, ex1⟩ : ∃ z : Int32, z = v3 + 1 := ⟨_, rfl⟩
  have hF := hF x1 ex1
  refine lv_iinc (v := x1) (lv' := [(3, .int x1), (0, .ref o), (1, .int v1), (2, .int v2)]) hx hb dX6_actDies_89 hl (k := 3) rfl (by rw [ex1]; rfl) (by decide) rfl (fun ls hl => ?_)
  refine lv_goto (tgt := 37) hx hb dX6_actDies_92 (by decide) ?_
  exact hK37 S M v1 v2 x1 hF _ _ _ (lv_sub hl [1, 2, 3, 0] rfl) hH
set_option maxHeartbeats 4000000 in
set_option maxRecDepth 100000 in
theorem wm_actDies_37 {p : Program} {l : Launch} {e : Env} {s : State} {m : MethodId} {args : Array Value} {below : List Frame} {meth : Method} {c : Code} {D : va_G} {cI cZ : ClassId} {ad : Nat → Nat} {o : Nat} {Q : Int32 → (Nat → Int32) → (Nat → Nat → Int32) → Prop} (X : zm_Cx p s m args meth c cX6_actDies 4 (some .int) D cI cZ ad o) :
    ∀ (n : Nat) (S : Nat → Int32) (M : Nat → Nat → Int32) (v1 : Int32) (v2 : Int32) (v3 : Int32), fm_actDies_37 Q n S M v1 v2 v3 → ∀ (H : Heap) (locs : List Loc) (ls : Array Slot), lv_has ls 4 [(0, .ref o), (1, .int v1), (2, .int v2), (3, .int v3)] → zm_H D cI cZ ad o S M s H locs → W p l e (zm_R 4) s m args below meth c H locs 0 0 (MQ below (zm_QS Q D cI cZ ad o) args s 0 0 (zm_A ad o)) (F0 m 37 ls []) := by
  have hx := X.1
  have hb := X.2.1
  intro n
  induction n with
  | zero =>
    intro S M v1 v2 v3 hF
    exact False.elim hF
  | succ n ih =>
    intro S M v1 v2 v3 hF
    intro H locs ls hl hH
    unfold fm_actDies_37 at hF
    refine lv_iload_n hx hb dX6_actDies_37 rfl (lv_at hl 3 rfl) ?_
    refine lv_aload_n hx hb dX6_actDies_38 rfl (lv_at hl 0 rfl) ?_
    refine zm_getf X hH 9 (by decide) rfl q1722 dX6_actDies_39 ?_
    refine lv_icmp_ge (tgt := 95) hx hb dX6_actDies_42 (by decide) (fun cd => ?_) (fun cd => ?_)
    · have hF := hF.1 cd
      refine lv_iconst (v := 0) hx hb dX6_actDies_95 (by decide) ?_
      refine lv_istore_n (lv' := [(3, .int 0), (0, .ref o), (1, .int v1), (2, .int v2)]) hx hb dX6_actDies_96 rfl hl (by decide) rfl (fun ls hl => ?_)
      obtain ⟨n9, hF⟩ := hF
      exact wm_actDies_97 X n9 S M v1 v2 0 hF _ _ _ (lv_sub hl [1, 2, 3, 0] rfl) hH
    · have hF := hF.2 cd
      refine lv_aload_n hx hb dX6_actDies_45 rfl (lv_at hl 0 rfl) ?_
      refine zm_getf X hH 11 (by decide) rfl q1724 dX6_actDies_46 ?_
      refine lv_iload_n hx hb dX6_actDies_49 rfl (lv_at hl 3 rfl) ?_
      obtain ⟨hI, hF⟩ := hF
      refine zm_iald X hH 11 (by decide) rfl (n := 150) rfl hI dX6_actDies_50 ?_
      refine lv_iconst (v := 1) hx hb dX6_actDies_51 (by decide) ?_
      refine lv_icmp_ne (tgt := 89) hx hb dX6_actDies_52 (by decide) (fun cd => ?_) (fun cd => ?_)
      · have hF := hF.1 cd
        exact wm_actDies_89 X ih S M v1 v2 v3 hF _ _ _ (lv_sub hl [0, 1, 2, 3] rfl) hH
      · have hF := hF.2 cd
        refine lv_aload_n hx hb dX6_actDies_55 rfl (lv_at hl 0 rfl) ?_
        refine zm_getf X hH 12 (by decide) rfl q1725 dX6_actDies_56 ?_
        refine lv_iload_n hx hb dX6_actDies_59 rfl (lv_at hl 3 rfl) ?_
        obtain ⟨hI, hF⟩ := hF
        refine zm_iald X hH 12 (by decide) rfl (n := 150) rfl hI dX6_actDies_60 ?_
        refine lv_iload_n hx hb dX6_actDies_61 rfl (lv_at hl 1 rfl) ?_
        refine lv_icmp_eq (tgt := 68) hx hb dX6_actDies_62 (by decide) (fun cd => ?_) (fun cd => ?_)
        · have hF := hF.1 cd
          refine lv_aload_n hx hb dX6_actDies_68 rfl (lv_at hl 0 rfl) ?_
          refine zm_getf X hH 11 (by decide) rfl q1724 dX6_actDies_69 ?_
          refine lv_iload_n hx hb dX6_actDies_72 rfl (lv_at hl 3 rfl) ?_
          refine lv_iconst (v := 2) hx hb dX6_actDies_73 (by decide) ?_
          obtain ⟨hI, hF⟩ := hF
          refine zm_iast X hH 11 (by decide) rfl (n := 150) rfl hI dX6_actDies_74 (fun M1 H locs eM1 hH => ?_)
          have hF := hF M1 eM1
          refine lv_aload_n hx hb dX6_actDies_75 rfl (lv_at hl 0 rfl) ?_
          refine lv_iload_n hx hb dX6_actDies_76 rfl (lv_at hl 3 rfl) ?_
          refine lv_iload_n hx hb dX6_actDies_77 rfl (lv_at hl 1 rfl) ?_
          refine zm_callv (As := [.int v3, .int v1]) (rest := []) X hH (wm_orders l D cI cZ ad o X.2.2.2.2.2.2.2.2 S M1 v3 v1 _ hF) (cwV 2 X.2.2.2.2.1 (lw_V q1973 q1975 qs53 q95 q1976) rfl rfl rfl (by decide +kernel) ⟨Nat.le_of_ble_eq_true rfl, Nat.le_of_ble_eq_true rfl⟩) rfl hl.1 rfl (Nat.le_of_ble_eq_true rfl) dX6_actDies_78 (Nat.le_refl 0) (Nat.le_refl 0) (fun S2 M3 H locs hF hH => ?_)
          refine lv_aload_n hx hb dX6_actDies_81 rfl (lv_at hl 0 rfl) ?_
          refine lv_iload_n hx hb dX6_actDies_82 rfl (lv_at hl 3 rfl) ?_
          refine zm_callv (As := [.int v3]) (rest := []) X hH (wm_offers l D cI cZ ad o X.2.2.2.2.2.2.2.2 S2 M3 v3 _ hF) (cwV 1 X.2.2.2.2.1 (lw_V q1995 q1997 qs58 q95 q1998) rfl rfl rfl (by decide +kernel) ⟨Nat.le_of_ble_eq_true rfl, Nat.le_of_ble_eq_true rfl⟩) rfl hl.1 rfl (Nat.le_of_ble_eq_true rfl) dX6_actDies_83 (Nat.le_refl 0) (Nat.le_refl 0) (fun S5 M6 H locs hF hH => ?_)
          obtain ⟨x8, ex8⟩ : ∃ z : Int32, z = v2 + 1 := ⟨_, rfl⟩
          have hF := hF x8 ex8
          refine lv_iinc (v := x8) (lv' := [(2, .int x8), (0, .ref o), (1, .int v1), (3, .int v3)]) hx hb dX6_actDies_86 hl (k := 2) rfl (by rw [ex8]; rfl) (by decide) rfl (fun ls hl => ?_)
          exact wm_actDies_89 X ih S5 M6 v1 x8 v3 hF _ _ _ (lv_sub hl [1, 2, 0, 3] rfl) hH
        · have hF := hF.2 cd
          refine lv_goto (tgt := 89) hx hb dX6_actDies_65 (by decide) ?_
          exact wm_actDies_89 X ih S M v1 v2 v3 hF _ _ _ (lv_sub hl [0, 1, 2, 3] rfl) hH
set_option maxHeartbeats 4000000 in
set_option maxRecDepth 100000 in
/-- actDies: what the bytecode asks is what its run needs -/
theorem wm_actDies (l : Launch) (D : va_G) (cI cZ : ClassId) (ad : Nat → Nat) (o : Nat) (hAd : zm_Ad ad o) (S : Nat → Int32) (M : Nat → Nat → Int32) (v1 : Int32) (Q : Int32 → (Nat → Int32) → (Nat → Nat → Int32) → Prop) (hF : fm_actDies S M v1 Q) :
    zm_Mi l yX6_actDies (ws_ yX6_actDies cX6_actDies 4 (some .int)) 4 D cI cZ ad o [.int v1] S M Q := by
  refine zm_ofi rfl hAd (Nat.le_of_ble_eq_true rfl) ?_
  intro p e s m args below meth c H locs ls X hH hl
  have hx := X.1
  have hb := X.2.1
  have hl : lv_has ls 4 [(0, .ref o), (1, .int v1)] := hl
  unfold fm_actDies at hF
  refine lv_aload_n hx hb dX6_actDies_0 rfl (lv_at hl 0 rfl) ?_
  refine lv_iload_n hx hb dX6_actDies_1 rfl (lv_at hl 1 rfl) ?_
  refine zm_calli (As := [.int v1]) (rest := []) X hH (wm_isPerson l D cI cZ ad o X.2.2.2.2.2.2.2.2 S M v1 _ hF) (cwV 1 X.2.2.2.2.1 (lw_V q1941 q1943 qs45 q95 q1944) rfl rfl rfl (by decide +kernel) ⟨Nat.le_of_ble_eq_true rfl, Nat.le_of_ble_eq_true rfl⟩) rfl hl.1 rfl (Nat.le_of_ble_eq_true rfl) dX6_actDies_2 (Nat.le_refl 0) (Nat.le_refl 0) (fun r3 S1 M2 H locs hF hH => ?_)
  obtain ⟨hF, e9, e8⟩ := hF; subst e9; subst e8
  refine lv_if_eq (tgt := 17) hx hb dX6_actDies_5 (by decide) (fun cd => ?_) (fun cd => ?_)
  · have hF := hF.1 cd
    refine lv_iconst (v := (-1)) hx hb dX6_actDies_17 (by decide) ?_
    exact zm_iret X hH rfl rfl hF dX6_actDies_18
  · have hF := hF.2 cd
    refine lv_aload_n hx hb dX6_actDies_8 rfl (lv_at hl 0 rfl) ?_
    refine zm_getf X hH 29 (by decide) rfl q1742 dX6_actDies_9 ?_
    refine lv_iload_n hx hb dX6_actDies_12 rfl (lv_at hl 1 rfl) ?_
    obtain ⟨hI, hF⟩ := hF
    refine zm_zald X hH 29 (by decide) rfl (n := 150) rfl hI dX6_actDies_13 ?_
    refine lv_if_eq (tgt := 19) hx hb dX6_actDies_14 (by decide) (fun cd => ?_) (fun cd => ?_)
    · have hF := hF.1 cd
      refine lv_aload_n hx hb dX6_actDies_19 rfl (lv_at hl 0 rfl) ?_
      refine zm_getf X hH 29 (by decide) rfl q1742 dX6_actDies_20 ?_
      refine lv_iload_n hx hb dX6_actDies_23 rfl (lv_at hl 1 rfl) ?_
      refine lv_iconst (v := 1) hx hb dX6_actDies_24 (by decide) ?_
      obtain ⟨hI, hF⟩ := hF
      refine zm_zast X hH 29 (by decide) rfl (n := 150) rfl hI dX6_actDies_25 (fun M4 H locs eM4 hH => ?_)
      have hF := hF M4 eM4
      refine lv_aload_n hx hb dX6_actDies_26 rfl (lv_at hl 0 rfl) ?_
      refine zm_getf X hH 30 (by decide) rfl q1743 dX6_actDies_27 ?_
      refine lv_iload_n hx hb dX6_actDies_30 rfl (lv_at hl 1 rfl) ?_
      refine lv_iconst (v := 1) hx hb dX6_actDies_31 (by decide) ?_
      obtain ⟨hI, hF⟩ := hF
      refine zm_iast X hH 30 (by decide) rfl (n := 150) rfl hI dX6_actDies_32 (fun M5 H locs eM5 hH => ?_)
      have hF := hF M5 eM5
      refine lv_iconst (v := 0) hx hb dX6_actDies_33 (by decide) ?_
      refine lv_istore_n (lv' := [(2, .int 0), (0, .ref o), (1, .int v1)]) hx hb dX6_actDies_34 rfl hl (by decide) rfl (fun ls hl => ?_)
      refine lv_iconst (v := 0) hx hb dX6_actDies_35 (by decide) ?_
      refine lv_istore_n (lv' := [(3, .int 0), (2, .int 0), (0, .ref o), (1, .int v1)]) hx hb dX6_actDies_36 rfl hl (by decide) rfl (fun ls hl => ?_)
      obtain ⟨n9, hF⟩ := hF
      exact wm_actDies_37 X n9 S M5 v1 0 0 hF _ _ _ (lv_sub hl [2, 3, 1, 0] rfl) hH
    · have hF := hF.2 cd
      refine lv_iconst (v := (-1)) hx hb dX6_actDies_17 (by decide) ?_
      exact zm_iret X hH rfl rfl hF dX6_actDies_18
set_option maxHeartbeats 4000000 in
set_option maxRecDepth 100000 in
theorem wm_actTakes_76 {p : Program} {l : Launch} {e : Env} {s : State} {m : MethodId} {args : Array Value} {below : List Frame} {meth : Method} {c : Code} {D : va_G} {cI cZ : ClassId} {ad : Nat → Nat} {o : Nat} {Q : Int32 → (Nat → Int32) → (Nat → Nat → Int32) → Prop} (X : zm_Cx p s m args meth c cX6_actTakes 4 (some .int) D cI cZ ad o) :
    ∀ (n : Nat) (S : Nat → Int32) (M : Nat → Nat → Int32) (v1 : Int32) (v3 : Int32), fm_actTakes_76 Q n S M v1 v3 → ∀ (H : Heap) (locs : List Loc) (ls : Array Slot), lv_has ls 4 [(0, .ref o), (1, .int v1), (3, .int v3)] → zm_H D cI cZ ad o S M s H locs → W p l e (zm_R 2) s m args below meth c H locs 0 0 (MQ below (zm_QS Q D cI cZ ad o) args s 0 0 (zm_A ad o)) (F0 m 76 ls []) := by
  have hx := X.1
  have hb := X.2.1
  intro n
  induction n with
  | zero =>
    intro S M v1 v3 hF
    exact False.elim hF
  | succ n ih =>
    intro S M v1 v3 hF
    intro H locs ls hl hH
    unfold fm_actTakes_76 at hF
    refine lv_iload_n hx hb dX6_actTakes_76 rfl (lv_at hl 2 rfl) ?_
    refine lv_sipush (v := 150) hx hb dX6_actTakes_77 (by decide) ?_
    refine lv_icmp_ge (tgt := 102) hx hb dX6_actTakes_80 (by decide) (fun cd => ?_) (fun cd => ?_)
    · have hF := hF.1 cd
      refine lv_iconst (v := 0) hx hb dX6_actTakes_102 (by decide) ?_
      exact zm_iret X hH rfl rfl hF dX6_actTakes_103
    · have hF := hF.2 cd
      refine lv_aload_n hx hb dX6_actTakes_83 rfl (lv_at hl 0 rfl) ?_
      refine zm_getf X hH 20 (by decide) rfl q1733 dX6_actTakes_84 ?_
      refine lv_sipush (v := 150) hx hb dX6_actTakes_87 (by decide) ?_
      refine lv_iload_n hx hb dX6_actTakes_90 rfl (lv_at hl 1 rfl) ?_
      refine lv_imul hx hb dX6_actTakes_91 ?_
      refine lv_iload_n hx hb dX6_actTakes_92 rfl (lv_at hl 2 rfl) ?_
      refine lv_iadd hx hb dX6_actTakes_93 ?_
      refine lv_iconst (v := 0) hx hb dX6_actTakes_94 (by decide) ?_
      obtain ⟨hI, hF⟩ := hF
      refine zm_zast X hH 20 (by decide) rfl (n := 22500) rfl hI dX6_actTakes_95 (fun M1 H locs eM1 hH => ?_)
      have hF := hF M1 eM1
      obtain ⟨x2, ex2⟩ : ∃ z : Int32, z = v3 + 1 := ⟨_, rfl⟩
      have hF := hF x2 ex2
      refine lv_iinc (v := x2) (lv' := [(3, .int x2), (0, .ref o), (1, .int v1)]) hx hb dX6_actTakes_96 hl (k := 2) rfl (by rw [ex2]; rfl) (by decide) rfl (fun ls hl => ?_)
      refine lv_goto (tgt := 76) hx hb dX6_actTakes_99 (by decide) ?_
      exact ih S M1 v1 x2 hF _ _ _ (lv_sub hl [1, 2, 0] rfl) hH
set_option maxHeartbeats 4000000 in
set_option maxRecDepth 100000 in
/-- actTakes: what the bytecode asks is what its run needs -/
theorem wm_actTakes (l : Launch) (D : va_G) (cI cZ : ClassId) (ad : Nat → Nat) (o : Nat) (hAd : zm_Ad ad o) (S : Nat → Int32) (M : Nat → Nat → Int32) (v1 : Int32) (v2 : Int32) (Q : Int32 → (Nat → Int32) → (Nat → Nat → Int32) → Prop) (hF : fm_actTakes S M v1 v2 Q) :
    zm_Mi l yX6_actTakes (ws_ yX6_actTakes cX6_actTakes 4 (some .int)) 2 D cI cZ ad o [.int v1, .int v2] S M Q := by
  refine zm_ofi rfl hAd (Nat.le_of_ble_eq_true rfl) ?_
  intro p e s m args below meth c H locs ls X hH hl
  have hx := X.1
  have hb := X.2.1
  have hl : lv_has ls 4 [(0, .ref o), (1, .int v1), (2, .int v2)] := hl
  unfold fm_actTakes at hF
  refine lv_aload_n hx hb dX6_actTakes_0 rfl (lv_at hl 0 rfl) ?_
  refine lv_iload_n hx hb dX6_actTakes_1 rfl (lv_at hl 1 rfl) ?_
  refine zm_calli (As := [.int v1]) (rest := []) X hH (wm_isGrave l D cI cZ ad o X.2.2.2.2.2.2.2.2 S M v1 _ hF) (cwV 1 X.2.2.2.2.1 (lw_V q1953 q1955 qs48 q95 q1956) rfl rfl rfl (by decide +kernel) ⟨Nat.le_of_ble_eq_true rfl, Nat.le_of_ble_eq_true rfl⟩) rfl hl.1 rfl (Nat.le_of_ble_eq_true rfl) dX6_actTakes_2 (Nat.le_refl 0) (Nat.le_refl 0) (fun r3 S1 M2 H locs hF hH => ?_)
  obtain ⟨hF, e9, e8⟩ := hF; subst e9; subst e8
  refine lv_if_ne (tgt := 10) hx hb dX6_actTakes_5 (by decide) (fun cd => ?_) (fun cd => ?_)
  · have hF := hF.1 cd
    refine lv_aload_n hx hb dX6_actTakes_10 rfl (lv_at hl 0 rfl) ?_
    refine zm_getf X hH 11 (by decide) rfl q1724 dX6_actTakes_11 ?_
    refine lv_iload_n hx hb dX6_actTakes_14 rfl (lv_at hl 1 rfl) ?_
    obtain ⟨hI, hF⟩ := hF
    refine zm_iald X hH 11 (by decide) rfl (n := 150) rfl hI dX6_actTakes_15 ?_
    refine lv_iconst (v := 2) hx hb dX6_actTakes_16 (by decide) ?_
    refine lv_icmp_ne (tgt := 29) hx hb dX6_actTakes_17 (by decide) (fun cd => ?_) (fun cd => ?_)
    · have hF := hF.1 cd
      refine lv_bipush (v := (-2)) hx hb dX6_actTakes_29 (by decide) ?_
      exact zm_iret X hH rfl rfl hF dX6_actTakes_31
    · have hF := hF.2 cd
      refine lv_aload_n hx hb dX6_actTakes_20 rfl (lv_at hl 0 rfl) ?_
      refine zm_getf X hH 14 (by decide) rfl q1727 dX6_actTakes_21 ?_
      refine lv_iload_n hx hb dX6_actTakes_24 rfl (lv_at hl 1 rfl) ?_
      obtain ⟨hI, hF⟩ := hF
      refine zm_iald X hH 14 (by decide) rfl (n := 150) rfl hI dX6_actTakes_25 ?_
      refine lv_if_ge (tgt := 32) hx hb dX6_actTakes_26 (by decide) (fun cd => ?_) (fun cd => ?_)
      · have hF := hF.1 cd
        refine lv_iload_n hx hb dX6_actTakes_32 rfl (lv_at hl 2 rfl) ?_
        refine lv_if_ne (tgt := 43) hx hb dX6_actTakes_33 (by decide) (fun cd => ?_) (fun cd => ?_)
        · have hF := hF.1 cd
          refine lv_aload_n hx hb dX6_actTakes_43 rfl (lv_at hl 0 rfl) ?_
          refine zm_getf X hH 11 (by decide) rfl q1724 dX6_actTakes_44 ?_
          refine lv_iload_n hx hb dX6_actTakes_47 rfl (lv_at hl 1 rfl) ?_
          refine lv_iconst (v := 1) hx hb dX6_actTakes_48 (by decide) ?_
          obtain ⟨hI, hF⟩ := hF
          refine zm_iast X hH 11 (by decide) rfl (n := 150) rfl hI dX6_actTakes_49 (fun M4 H locs eM4 hH => ?_)
          have hF := hF M4 eM4
          refine lv_aload_n hx hb dX6_actTakes_50 rfl (lv_at hl 0 rfl) ?_
          refine zm_getf X hH 19 (by decide) rfl q1732 dX6_actTakes_51 ?_
          refine lv_iload_n hx hb dX6_actTakes_54 rfl (lv_at hl 1 rfl) ?_
          refine lv_aload_n hx hb dX6_actTakes_55 rfl (lv_at hl 0 rfl) ?_
          refine zm_getf X hH 12 (by decide) rfl q1725 dX6_actTakes_56 ?_
          refine lv_iload_n hx hb dX6_actTakes_59 rfl (lv_at hl 1 rfl) ?_
          obtain ⟨hI, hF⟩ := hF
          refine zm_iald X hH 12 (by decide) rfl (n := 150) rfl hI dX6_actTakes_60 ?_
          obtain ⟨hI, hF⟩ := hF
          refine zm_iast X hH 19 (by decide) rfl (n := 150) rfl hI dX6_actTakes_61 (fun M5 H locs eM5 hH => ?_)
          have hF := hF M5 eM5
          refine lv_aload_n hx hb dX6_actTakes_62 rfl (lv_at hl 0 rfl) ?_
          refine zm_getf X hH 12 (by decide) rfl q1725 dX6_actTakes_63 ?_
          refine lv_iload_n hx hb dX6_actTakes_66 rfl (lv_at hl 1 rfl) ?_
          refine lv_aload_n hx hb dX6_actTakes_67 rfl (lv_at hl 0 rfl) ?_
          refine zm_getf X hH 14 (by decide) rfl q1727 dX6_actTakes_68 ?_
          refine lv_iload_n hx hb dX6_actTakes_71 rfl (lv_at hl 1 rfl) ?_
          obtain ⟨hI, hF⟩ := hF
          refine zm_iald X hH 14 (by decide) rfl (n := 150) rfl hI dX6_actTakes_72 ?_
          obtain ⟨hI, hF⟩ := hF
          refine zm_iast X hH 12 (by decide) rfl (n := 150) rfl hI dX6_actTakes_73 (fun M6 H locs eM6 hH => ?_)
          have hF := hF M6 eM6
          refine lv_iconst (v := 0) hx hb dX6_actTakes_74 (by decide) ?_
          refine lv_istore_n (lv' := [(3, .int 0), (0, .ref o), (1, .int v1), (2, .int v2)]) hx hb dX6_actTakes_75 rfl hl (by decide) rfl (fun ls hl => ?_)
          obtain ⟨n9, hF⟩ := hF
          exact wm_actTakes_76 X n9 S M6 v1 0 hF _ _ _ (lv_sub hl [1, 2, 0] rfl) hH
        · have hF := hF.2 cd
          refine lv_aload_n hx hb dX6_actTakes_36 rfl (lv_at hl 0 rfl) ?_
          refine lv_iload_n hx hb dX6_actTakes_37 rfl (lv_at hl 1 rfl) ?_
          refine zm_callv (As := [.int v1]) (rest := []) X hH (wm_passOn l D cI cZ ad o X.2.2.2.2.2.2.2.2 S M v1 _ hF) (cwV 1 X.2.2.2.2.1 (lw_V q1999 q2001 qs59 q95 q2002) rfl rfl rfl (by decide +kernel) ⟨Nat.le_of_ble_eq_true rfl, Nat.le_of_ble_eq_true rfl⟩) rfl hl.1 rfl (Nat.le_of_ble_eq_true rfl) dX6_actTakes_38 (Nat.le_refl 0) (Nat.le_refl 0) (fun S7 M8 H locs hF hH => ?_)
          refine lv_iconst (v := 0) hx hb dX6_actTakes_41 (by decide) ?_
          exact zm_iret X hH rfl rfl hF dX6_actTakes_42
      · have hF := hF.2 cd
        refine lv_bipush (v := (-2)) hx hb dX6_actTakes_29 (by decide) ?_
        exact zm_iret X hH rfl rfl hF dX6_actTakes_31
  · have hF := hF.2 cd
    refine lv_iconst (v := (-1)) hx hb dX6_actTakes_8 (by decide) ?_
    exact zm_iret X hH rfl rfl hF dX6_actTakes_9
set_option maxHeartbeats 4000000 in
set_option maxRecDepth 100000 in
theorem wm_isAgreed_65 {p : Program} {l : Launch} {e : Env} {s : State} {m : MethodId} {args : Array Value} {below : List Frame} {meth : Method} {c : Code} {D : va_G} {cI cZ : ClassId} {ad : Nat → Nat} {o : Nat} {Q : Int32 → Prop} {S0 : Nat → Int32} {M0 : Nat → Nat → Int32} (X : zm_Cx p s m args meth c cX6_isAgreed 4 (some .boolean) D cI cZ ad o) :
    ∀ (S : Nat → Int32) (M : Nat → Nat → Int32), fm_isAgreed_65 Q S M → ∀ (H : Heap) (locs : List Loc) (ls : Array Slot), S0 = S → M0 = M → lv_has ls 4 [(0, .ref o)] → zm_H D cI cZ ad o S M s H locs → W p l e (zm_R 1) s m args below meth c H locs 0 0 (MQ below (zm_QS (fun r S1 M1 => Q r ∧ S0 = S1 ∧ M0 = M1) D cI cZ ad o) args s 0 0 (zm_A ad o)) (F0 m 65 ls []) := by
  have hx := X.1
  have hb := X.2.1
  intro S M hF
  intro H locs ls eS eM hl hH
  unfold fm_isAgreed_65 at hF
  refine lv_iconst (v := 1) hx hb dX6_isAgreed_65 (by decide) ?_
  refine lv_goto (tgt := 70) hx hb dX6_isAgreed_66 (by decide) ?_
  exact zm_iret X hH rfl rfl ⟨hF, eS, eM⟩ dX6_isAgreed_70
set_option maxHeartbeats 4000000 in
set_option maxRecDepth 100000 in
/-- isAgreed: what the bytecode asks is what its run needs -/
theorem wm_isAgreed (l : Launch) (D : va_G) (cI cZ : ClassId) (ad : Nat → Nat) (o : Nat) (hAd : zm_Ad ad o) (S : Nat → Int32) (M : Nat → Nat → Int32) (v1 : Int32) (v2 : Int32) (Q : Int32 → Prop) (hF : fm_isAgreed S M v1 v2 Q) :
    zm_Mi l yX6_isAgreed (ws_ yX6_isAgreed cX6_isAgreed 4 (some .boolean)) 1 D cI cZ ad o [.int v1, .int v2] S M (fun r S1 M1 => Q r ∧ S = S1 ∧ M = M1) := by
  refine zm_ofi rfl hAd (Nat.le_of_ble_eq_true rfl) ?_
  intro p e s m args below meth c H locs ls X hH hl
  have hx := X.1
  have hb := X.2.1
  have hl : lv_has ls 4 [(0, .ref o), (1, .int v1), (2, .int v2)] := hl
  unfold fm_isAgreed at hF
  refine lv_aload_n hx hb dX6_isAgreed_0 rfl (lv_at hl 0 rfl) ?_
  refine zm_getf X hH 12 (by decide) rfl q1725 dX6_isAgreed_1 ?_
  refine lv_iload_n hx hb dX6_isAgreed_4 rfl (lv_at hl 1 rfl) ?_
  obtain ⟨hI, hF⟩ := hF
  refine zm_iald X hH 12 (by decide) rfl (n := 150) rfl hI dX6_isAgreed_5 ?_
  refine lv_topi (fun x1 ex1 => ?_)
  have hF := hF x1 ex1
  refine lv_istore_n (lv' := [(3, .int x1), (0, .ref o), (1, .int v1), (2, .int v2)]) hx hb dX6_isAgreed_6 rfl hl (by decide) rfl (fun ls hl => ?_)
  refine lv_aload_n hx hb dX6_isAgreed_7 rfl (lv_at hl 1 rfl) ?_
  refine zm_getf X hH 20 (by decide) rfl q1733 dX6_isAgreed_8 ?_
  refine lv_sipush (v := 150) hx hb dX6_isAgreed_11 (by decide) ?_
  refine lv_iload_n hx hb dX6_isAgreed_14 rfl (lv_at hl 2 rfl) ?_
  refine lv_imul hx hb dX6_isAgreed_15 ?_
  refine lv_iload_n hx hb dX6_isAgreed_16 rfl (lv_at hl 3 rfl) ?_
  refine lv_iadd hx hb dX6_isAgreed_17 ?_
  obtain ⟨hI, hF⟩ := hF
  refine zm_zald X hH 20 (by decide) rfl (n := 22500) rfl hI dX6_isAgreed_18 ?_
  refine lv_if_ne (tgt := 65) hx hb dX6_isAgreed_19 (by decide) (fun cd => ?_) (fun cd => ?_)
  · have hF := hF.1 cd
    exact wm_isAgreed_65 X S M hF _ _ _ rfl rfl (lv_sub hl [1] rfl) hH
  · have hF := hF.2 cd
    refine lv_iload_n hx hb dX6_isAgreed_22 rfl (lv_at hl 3 rfl) ?_
    refine lv_aload_n hx hb dX6_isAgreed_23 rfl (lv_at hl 1 rfl) ?_
    refine zm_getf X hH 19 (by decide) rfl q1732 dX6_isAgreed_24 ?_
    refine lv_iload_n hx hb dX6_isAgreed_27 rfl (lv_at hl 2 rfl) ?_
    obtain ⟨hI, hF⟩ := hF
    refine zm_iald X hH 19 (by decide) rfl (n := 150) rfl hI dX6_isAgreed_28 ?_
    refine lv_icmp_eq (tgt := 65) hx hb dX6_isAgreed_29 (by decide) (fun cd => ?_) (fun cd => ?_)
    · have hF := hF.1 cd
      exact wm_isAgreed_65 X S M hF _ _ _ rfl rfl (lv_sub hl [1] rfl) hH
    · have hF := hF.2 cd
      refine lv_iload_n hx hb dX6_isAgreed_32 rfl (lv_at hl 3 rfl) ?_
      refine lv_iload_n hx hb dX6_isAgreed_33 rfl (lv_at hl 0 rfl) ?_
      refine lv_icmp_eq (tgt := 65) hx hb dX6_isAgreed_34 (by decide) (fun cd => ?_) (fun cd => ?_)
      · have hF := hF.1 cd
        exact wm_isAgreed_65 X S M hF _ _ _ rfl rfl (lv_sub hl [1] rfl) hH
      · have hF := hF.2 cd
        refine lv_iload_n hx hb dX6_isAgreed_37 rfl (lv_at hl 3 rfl) ?_
        refine lv_aload_n hx hb dX6_isAgreed_38 rfl (lv_at hl 1 rfl) ?_
        refine zm_getf X hH 36 (by decide) rfl q1749 dX6_isAgreed_39 ?_
        refine lv_iload_n hx hb dX6_isAgreed_42 rfl (lv_at hl 0 rfl) ?_
        obtain ⟨hI, hF⟩ := hF
        refine zm_iald X hH 36 (by decide) rfl (n := 150) rfl hI dX6_isAgreed_43 ?_
        refine lv_icmp_eq (tgt := 65) hx hb dX6_isAgreed_44 (by decide) (fun cd => ?_) (fun cd => ?_)
        · have hF := hF.1 cd
          exact wm_isAgreed_65 X S M hF _ _ _ rfl rfl (lv_sub hl [1] rfl) hH
        · have hF := hF.2 cd
          refine lv_aload_n hx hb dX6_isAgreed_47 rfl (lv_at hl 1 rfl) ?_
          refine lv_iload_n hx hb dX6_isAgreed_48 rfl (lv_at hl 0 rfl) ?_
          refine lv_iload_n hx hb dX6_isAgreed_49 rfl (lv_at hl 3 rfl) ?_
          refine zm_calli (As := [.int x1, .int v2]) (rest := []) X hH (wm_isParent l D cI cZ ad o X.2.2.2.2.2.2.2.2 S M x1 v2 _ hF) (cwV 2 X.2.2.2.2.1 (lw_V q1987 q1989 qs56 q95 q1990) rfl rfl rfl (by decide +kernel) ⟨Nat.le_of_ble_eq_true rfl, Nat.le_of_ble_eq_true rfl⟩) rfl hl.1 rfl (Nat.le_of_ble_eq_true rfl) dX6_isAgreed_50 (Nat.le_refl 0) (Nat.le_refl 0) (fun r4 S2 M3 H locs hF hH => ?_)
          obtain ⟨hF, e9, e8⟩ := hF; subst e9; subst e8
          refine lv_if_ne (tgt := 65) hx hb dX6_isAgreed_53 (by decide) (fun cd => ?_) (fun cd => ?_)
          · have hF := hF.1 cd
            exact wm_isAgreed_65 X S M hF _ _ _ rfl rfl (lv_sub hl [1] rfl) hH
          · have hF := hF.2 cd
            refine lv_aload_n hx hb dX6_isAgreed_56 rfl (lv_at hl 1 rfl) ?_
            refine lv_iload_n hx hb dX6_isAgreed_57 rfl (lv_at hl 3 rfl) ?_
            refine lv_iload_n hx hb dX6_isAgreed_58 rfl (lv_at hl 0 rfl) ?_
            refine zm_calli (As := [.int v2, .int x1]) (rest := []) X hH (wm_isParent l D cI cZ ad o X.2.2.2.2.2.2.2.2 S M v2 x1 _ hF) (cwV 2 X.2.2.2.2.1 (lw_V q1987 q1989 qs56 q95 q1990) rfl rfl rfl (by decide +kernel) ⟨Nat.le_of_ble_eq_true rfl, Nat.le_of_ble_eq_true rfl⟩) rfl hl.1 rfl (Nat.le_of_ble_eq_true rfl) dX6_isAgreed_59 (Nat.le_refl 0) (Nat.le_refl 0) (fun r7 S5 M6 H locs hF hH => ?_)
            obtain ⟨hF, e9, e8⟩ := hF; subst e9; subst e8
            refine lv_if_eq (tgt := 69) hx hb dX6_isAgreed_62 (by decide) (fun cd => ?_) (fun cd => ?_)
            · have hF := hF.1 cd
              refine lv_iconst (v := 0) hx hb dX6_isAgreed_69 (by decide) ?_
              exact zm_iret X hH rfl rfl ⟨hF, rfl, rfl⟩ dX6_isAgreed_70
            · have hF := hF.2 cd
              exact wm_isAgreed_65 X S M hF _ _ _ rfl rfl (lv_sub hl [1] rfl) hH
set_option maxHeartbeats 4000000 in
set_option maxRecDepth 100000 in
/-- rests: what the bytecode asks is what its run needs -/
theorem wm_rests (l : Launch) (D : va_G) (cI cZ : ClassId) (ad : Nat → Nat) (o : Nat) (hAd : zm_Ad ad o) (S : Nat → Int32) (M : Nat → Nat → Int32) (v1 : Int32) (Q : Int32 → Prop) (hF : fm_rests S M v1 Q) :
    zm_Mi l yX6_rests (ws_ yX6_rests cX6_rests 2 (some .boolean)) 0 D cI cZ ad o [.int v1] S M (fun r S1 M1 => Q r ∧ S = S1 ∧ M = M1) := by
  refine zm_ofi rfl hAd (Nat.le_of_ble_eq_true rfl) ?_
  intro p e s m args below meth c H locs ls X hH hl
  have hx := X.1
  have hb := X.2.1
  have hl : lv_has ls 2 [(0, .ref o), (1, .int v1)] := hl
  unfold fm_rests at hF
  refine lv_iload_n hx hb dX6_rests_0 rfl (lv_at hl 1 rfl) ?_
  refine lv_if_lt (tgt := 31) hx hb dX6_rests_1 (by decide) (fun cd => ?_) (fun cd => ?_)
  · have hF := hF.1 cd
    refine lv_iconst (v := 0) hx hb dX6_rests_31 (by decide) ?_
    exact zm_iret X hH rfl rfl ⟨hF, rfl, rfl⟩ dX6_rests_32
  · have hF := hF.2 cd
    refine lv_aload_n hx hb dX6_rests_4 rfl (lv_at hl 0 rfl) ?_
    refine zm_getf X hH 30 (by decide) rfl q1743 dX6_rests_5 ?_
    refine lv_iload_n hx hb dX6_rests_8 rfl (lv_at hl 1 rfl) ?_
    obtain ⟨hI, hF⟩ := hF
    refine zm_iald X hH 30 (by decide) rfl (n := 150) rfl hI dX6_rests_9 ?_
    refine lv_iconst (v := 2) hx hb dX6_rests_10 (by decide) ?_
    refine lv_icmp_ne (tgt := 31) hx hb dX6_rests_11 (by decide) (fun cd => ?_) (fun cd => ?_)
    · have hF := hF.1 cd
      refine lv_iconst (v := 0) hx hb dX6_rests_31 (by decide) ?_
      exact zm_iret X hH rfl rfl ⟨hF, rfl, rfl⟩ dX6_rests_32
    · have hF := hF.2 cd
      refine lv_aload_n hx hb dX6_rests_14 rfl (lv_at hl 0 rfl) ?_
      refine zm_getf X hH 1 (by decide) rfl q1714 dX6_rests_15 ?_
      refine lv_aload_n hx hb dX6_rests_18 rfl (lv_at hl 0 rfl) ?_
      refine zm_getf X hH 34 (by decide) rfl q1747 dX6_rests_19 ?_
      refine lv_iload_n hx hb dX6_rests_22 rfl (lv_at hl 1 rfl) ?_
      obtain ⟨hI, hF⟩ := hF
      refine zm_iald X hH 34 (by decide) rfl (n := 150) rfl hI dX6_rests_23 ?_
      refine lv_icmp_ge (tgt := 31) hx hb dX6_rests_24 (by decide) (fun cd => ?_) (fun cd => ?_)
      · have hF := hF.1 cd
        refine lv_iconst (v := 0) hx hb dX6_rests_31 (by decide) ?_
        exact zm_iret X hH rfl rfl ⟨hF, rfl, rfl⟩ dX6_rests_32
      · have hF := hF.2 cd
        refine lv_iconst (v := 1) hx hb dX6_rests_27 (by decide) ?_
        refine lv_goto (tgt := 32) hx hb dX6_rests_28 (by decide) ?_
        exact zm_iret X hH rfl rfl ⟨hF, rfl, rfl⟩ dX6_rests_32
set_option maxHeartbeats 4000000 in
set_option maxRecDepth 100000 in
/-- yearsOf: what the bytecode asks is what its run needs -/
theorem wm_yearsOf (l : Launch) (D : va_G) (cI cZ : ClassId) (ad : Nat → Nat) (o : Nat) (hAd : zm_Ad ad o) (S : Nat → Int32) (M : Nat → Nat → Int32) (v1 : Int32) (v2 : Int32) (Q : Int32 → Prop) (hF : fm_yearsOf S M v1 v2 Q) :
    zm_Mi l yX6_yearsOf (ws_ yX6_yearsOf cX6_yearsOf 4 (some .int)) 0 D cI cZ ad o [.int v1, .int v2] S M (fun r S1 M1 => Q r ∧ S = S1 ∧ M = M1) := by
  refine zm_ofi rfl hAd (Nat.le_of_ble_eq_true rfl) ?_
  intro p e s m args below meth c H locs ls X hH hl
  have hx := X.1
  have hb := X.2.1
  have hl : lv_has ls 4 [(0, .ref o), (1, .int v1), (2, .int v2)] := hl
  unfold fm_yearsOf at hF
  refine lv_aload_n hx hb dX6_yearsOf_0 rfl (lv_at hl 0 rfl) ?_
  refine zm_getf X hH 16 (by decide) rfl q1729 dX6_yearsOf_1 ?_
  refine lv_iload_n hx hb dX6_yearsOf_4 rfl (lv_at hl 2 rfl) ?_
  obtain ⟨hI, hF⟩ := hF
  refine zm_iald X hH 16 (by decide) rfl (n := 150) rfl hI dX6_yearsOf_5 ?_
  refine lv_bipush (v := 12) hx hb dX6_yearsOf_6 (by decide) ?_
  refine lv_idiv hx hb dX6_yearsOf_8 (by decide) ?_
  refine lv_topi (fun x1 ex1 => ?_)
  have hF := hF x1 ex1
  refine lv_istore_n (lv' := [(3, .int x1), (0, .ref o), (1, .int v1), (2, .int v2)]) hx hb dX6_yearsOf_9 rfl hl (by decide) rfl (fun ls hl => ?_)
  refine lv_iload_n hx hb dX6_yearsOf_10 rfl (lv_at hl 2 rfl) ?_
  refine lv_if_ne (tgt := 28) hx hb dX6_yearsOf_11 (by decide) (fun cd => ?_) (fun cd => ?_)
  · have hF := hF.1 cd
    refine lv_iload_n hx hb dX6_yearsOf_28 rfl (lv_at hl 2 rfl) ?_
    refine lv_iconst (v := 2) hx hb dX6_yearsOf_29 (by decide) ?_
    refine lv_icmp_ne (tgt := 47) hx hb dX6_yearsOf_30 (by decide) (fun cd => ?_) (fun cd => ?_)
    · have hF := hF.1 cd
      refine lv_bipush (v := 10) hx hb dX6_yearsOf_47 (by decide) ?_
      exact zm_iret X hH rfl rfl ⟨hF, rfl, rfl⟩ dX6_yearsOf_49
    · have hF := hF.2 cd
      refine lv_bipush (v := 12) hx hb dX6_yearsOf_33 (by decide) ?_
      refine lv_iconst (v := 2) hx hb dX6_yearsOf_35 (by decide) ?_
      refine lv_aload_n hx hb dX6_yearsOf_36 rfl (lv_at hl 1 rfl) ?_
      refine zm_getf X hH 3 (by decide) rfl q1716 dX6_yearsOf_37 ?_
      refine lv_iload_n hx hb dX6_yearsOf_40 rfl (lv_at hl 0 rfl) ?_
      obtain ⟨hI, hF⟩ := hF
      refine zm_iald X hH 3 (by decide) rfl (n := 8) rfl hI dX6_yearsOf_41 ?_
      refine lv_imul hx hb dX6_yearsOf_42 ?_
      refine lv_iadd hx hb dX6_yearsOf_43 ?_
      refine lv_goto (tgt := 49) hx hb dX6_yearsOf_44 (by decide) ?_
      exact zm_iret X hH rfl rfl ⟨hF, rfl, rfl⟩ dX6_yearsOf_49
  · have hF := hF.2 cd
    refine lv_bipush (v := 20) hx hb dX6_yearsOf_14 (by decide) ?_
    refine lv_iconst (v := 4) hx hb dX6_yearsOf_16 (by decide) ?_
    refine lv_aload_n hx hb dX6_yearsOf_17 rfl (lv_at hl 1 rfl) ?_
    refine zm_getf X hH 3 (by decide) rfl q1716 dX6_yearsOf_18 ?_
    refine lv_iload_n hx hb dX6_yearsOf_21 rfl (lv_at hl 0 rfl) ?_
    obtain ⟨hI, hF⟩ := hF
    refine zm_iald X hH 3 (by decide) rfl (n := 8) rfl hI dX6_yearsOf_22 ?_
    refine lv_imul hx hb dX6_yearsOf_23 ?_
    refine lv_iadd hx hb dX6_yearsOf_24 ?_
    refine lv_goto (tgt := 49) hx hb dX6_yearsOf_25 (by decide) ?_
    exact zm_iret X hH rfl rfl ⟨hF, rfl, rfl⟩ dX6_yearsOf_49
set_option maxHeartbeats 4000000 in
set_option maxRecDepth 100000 in
theorem wm_takesKind_20 {p : Program} {l : Launch} {e : Env} {s : State} {m : MethodId} {args : Array Value} {below : List Frame} {meth : Method} {c : Code} {D : va_G} {cI cZ : ClassId} {ad : Nat → Nat} {o : Nat} {Q : Int32 → Prop} {S0 : Nat → Int32} {M0 : Nat → Nat → Int32} (X : zm_Cx p s m args meth c cX6_takesKind 3 (some .boolean) D cI cZ ad o) :
    ∀ (S : Nat → Int32) (M : Nat → Nat → Int32) (v2 : Int32), fm_takesKind_20 Q S M v2 → ∀ (H : Heap) (locs : List Loc) (ls : Array Slot), S0 = S → M0 = M → lv_has ls 3 [(0, .ref o), (2, .int v2)] → zm_H D cI cZ ad o S M s H locs → W p l e (zm_R 0) s m args below meth c H locs 0 0 (MQ below (zm_QS (fun r S1 M1 => Q r ∧ S0 = S1 ∧ M0 = M1) D cI cZ ad o) args s 0 0 (zm_A ad o)) (F0 m 20 ls []) := by
  have hx := X.1
  have hb := X.2.1
  intro S M v2 hF
  intro H locs ls eS eM hl hH
  unfold fm_takesKind_20 at hF
  refine lv_iload_n hx hb dX6_takesKind_20 rfl (lv_at hl 1 rfl) ?_
  refine lv_iconst (v := 1) hx hb dX6_takesKind_21 (by decide) ?_
  refine lv_icmp_ne (tgt := 29) hx hb dX6_takesKind_22 (by decide) (fun cd => ?_) (fun cd => ?_)
  · have hF := hF.1 cd
    refine lv_iconst (v := 0) hx hb dX6_takesKind_29 (by decide) ?_
    refine lv_goto (tgt := 67) hx hb dX6_takesKind_30 (by decide) ?_
    exact zm_iret X hH rfl rfl ⟨hF, eS, eM⟩ dX6_takesKind_67
  · have hF := hF.2 cd
    refine lv_iconst (v := 1) hx hb dX6_takesKind_25 (by decide) ?_
    refine lv_goto (tgt := 67) hx hb dX6_takesKind_26 (by decide) ?_
    exact zm_iret X hH rfl rfl ⟨hF, eS, eM⟩ dX6_takesKind_67
set_option maxHeartbeats 4000000 in
set_option maxRecDepth 100000 in
/-- takesKind: what the bytecode asks is what its run needs -/
theorem wm_takesKind (l : Launch) (D : va_G) (cI cZ : ClassId) (ad : Nat → Nat) (o : Nat) (hAd : zm_Ad ad o) (S : Nat → Int32) (M : Nat → Nat → Int32) (v1 : Int32) (v2 : Int32) (Q : Int32 → Prop) (hF : fm_takesKind S M v1 v2 Q) :
    zm_Mi l yX6_takesKind (ws_ yX6_takesKind cX6_takesKind 3 (some .boolean)) 0 D cI cZ ad o [.int v1, .int v2] S M (fun r S1 M1 => Q r ∧ S = S1 ∧ M = M1) := by
  refine zm_ofi rfl hAd (Nat.le_of_ble_eq_true rfl) ?_
  intro p e s m args below meth c H locs ls X hH hl
  have hx := X.1
  have hb := X.2.1
  have hl : lv_has ls 3 [(0, .ref o), (1, .int v1), (2, .int v2)] := hl
  unfold fm_takesKind at hF
  refine lv_aload_n hx hb dX6_takesKind_0 rfl (lv_at hl 0 rfl) ?_
  refine zm_getf X hH 10 (by decide) rfl q1723 dX6_takesKind_1 ?_
  refine lv_iload_n hx hb dX6_takesKind_4 rfl (lv_at hl 1 rfl) ?_
  obtain ⟨hI, hF⟩ := hF
  refine zm_iald X hH 10 (by decide) rfl (n := 150) rfl hI dX6_takesKind_5 ?_
  refine lv_iconst (v := 4) hx hb dX6_takesKind_6 (by decide) ?_
  refine lv_icmp_eq (tgt := 20) hx hb dX6_takesKind_7 (by decide) (fun cd => ?_) (fun cd => ?_)
  · have hF := hF.1 cd
    exact wm_takesKind_20 X S M v2 hF _ _ _ rfl rfl (lv_sub hl [0, 2] rfl) hH
  · have hF := hF.2 cd
    refine lv_aload_n hx hb dX6_takesKind_10 rfl (lv_at hl 0 rfl) ?_
    refine zm_getf X hH 10 (by decide) rfl q1723 dX6_takesKind_11 ?_
    refine lv_iload_n hx hb dX6_takesKind_14 rfl (lv_at hl 1 rfl) ?_
    obtain ⟨hI, hF⟩ := hF
    refine zm_iald X hH 10 (by decide) rfl (n := 150) rfl hI dX6_takesKind_15 ?_
    refine lv_iconst (v := 5) hx hb dX6_takesKind_16 (by decide) ?_
    refine lv_icmp_ne (tgt := 33) hx hb dX6_takesKind_17 (by decide) (fun cd => ?_) (fun cd => ?_)
    · have hF := hF.1 cd
      refine lv_aload_n hx hb dX6_takesKind_33 rfl (lv_at hl 0 rfl) ?_
      refine zm_getf X hH 10 (by decide) rfl q1723 dX6_takesKind_34 ?_
      refine lv_iload_n hx hb dX6_takesKind_37 rfl (lv_at hl 1 rfl) ?_
      obtain ⟨hI, hF⟩ := hF
      refine zm_iald X hH 10 (by decide) rfl (n := 150) rfl hI dX6_takesKind_38 ?_
      refine lv_bipush (v := 6) hx hb dX6_takesKind_39 (by decide) ?_
      refine lv_icmp_ne (tgt := 57) hx hb dX6_takesKind_41 (by decide) (fun cd => ?_) (fun cd => ?_)
      · have hF := hF.1 cd
        refine lv_iload_n hx hb dX6_takesKind_57 rfl (lv_at hl 2 rfl) ?_
        refine lv_iconst (v := 1) hx hb dX6_takesKind_58 (by decide) ?_
        refine lv_icmp_eq (tgt := 66) hx hb dX6_takesKind_59 (by decide) (fun cd => ?_) (fun cd => ?_)
        · have hF := hF.1 cd
          refine lv_iconst (v := 0) hx hb dX6_takesKind_66 (by decide) ?_
          exact zm_iret X hH rfl rfl ⟨hF, rfl, rfl⟩ dX6_takesKind_67
        · have hF := hF.2 cd
          refine lv_iconst (v := 1) hx hb dX6_takesKind_62 (by decide) ?_
          refine lv_goto (tgt := 67) hx hb dX6_takesKind_63 (by decide) ?_
          exact zm_iret X hH rfl rfl ⟨hF, rfl, rfl⟩ dX6_takesKind_67
      · have hF := hF.2 cd
        refine lv_iload_n hx hb dX6_takesKind_44 rfl (lv_at hl 2 rfl) ?_
        refine lv_iconst (v := 2) hx hb dX6_takesKind_45 (by decide) ?_
        refine lv_icmp_ne (tgt := 53) hx hb dX6_takesKind_46 (by decide) (fun cd => ?_) (fun cd => ?_)
        · have hF := hF.1 cd
          refine lv_iconst (v := 0) hx hb dX6_takesKind_53 (by decide) ?_
          refine lv_goto (tgt := 67) hx hb dX6_takesKind_54 (by decide) ?_
          exact zm_iret X hH rfl rfl ⟨hF, rfl, rfl⟩ dX6_takesKind_67
        · have hF := hF.2 cd
          refine lv_iconst (v := 1) hx hb dX6_takesKind_49 (by decide) ?_
          refine lv_goto (tgt := 67) hx hb dX6_takesKind_50 (by decide) ?_
          exact zm_iret X hH rfl rfl ⟨hF, rfl, rfl⟩ dX6_takesKind_67
    · have hF := hF.2 cd
      exact wm_takesKind_20 X S M v2 hF _ _ _ rfl rfl (lv_sub hl [0, 2] rfl) hH
set_option maxHeartbeats 4000000 in
set_option maxRecDepth 100000 in
theorem wm_roomIn_113 {p : Program} {l : Launch} {e : Env} {s : State} {m : MethodId} {args : Array Value} {below : List Frame} {meth : Method} {c : Code} {D : va_G} {cI cZ : ClassId} {ad : Nat → Nat} {o : Nat} {Q : Int32 → Prop} {S0 : Nat → Int32} {M0 : Nat → Nat → Int32} (X : zm_Cx p s m args meth c cX6_roomIn 6 (some .int) D cI cZ ad o) :
    ∀ (S : Nat → Int32) (M : Nat → Nat → Int32) (v4 : Int32) (t0 : Int32), fm_roomIn_113 Q S M v4 t0 → ∀ (H : Heap) (locs : List Loc) (ls : Array Slot), S0 = S → M0 = M → lv_has ls 6 [(0, .ref o), (4, .int v4)] → zm_H D cI cZ ad o S M s H locs → W p l e (zm_R 1) s m args below meth c H locs 0 0 (MQ below (zm_QS (fun r S1 M1 => Q r ∧ S0 = S1 ∧ M0 = M1) D cI cZ ad o) args s 0 0 (zm_A ad o)) (F0 m 113 ls [.int t0]) := by
  have hx := X.1
  have hb := X.2.1
  intro S M v4 t0 hF
  intro H locs ls eS eM hl hH
  unfold fm_roomIn_113 at hF
  refine lv_istore (lv' := [(5, .int t0), (0, .ref o), (4, .int v4)]) hx hb dX6_roomIn_113 hl (by decide) rfl (fun ls hl => ?_)
  refine lv_iload hx hb dX6_roomIn_115 (lv_at hl 0 rfl) ?_
  refine lv_if_eq (tgt := 133) hx hb dX6_roomIn_117 (by decide) (fun cd => ?_) (fun cd => ?_)
  · have hF := hF.1 cd
    refine lv_iconst (v := 0) hx hb dX6_roomIn_133 (by decide) ?_
    exact zm_iret X hH rfl rfl ⟨hF, eS, eM⟩ dX6_roomIn_134
  · have hF := hF.2 cd
    refine lv_aload_n hx hb dX6_roomIn_120 rfl (lv_at hl 1 rfl) ?_
    refine lv_iload hx hb dX6_roomIn_121 (lv_at hl 2 rfl) ?_
    refine zm_calli (As := [.int v4]) (rest := []) X hH (wm_rests l D cI cZ ad o X.2.2.2.2.2.2.2.2 S M v4 _ hF) (cwV 1 X.2.2.2.2.1 (lw_V q2027 q2029 qs66 q95 q2030) rfl rfl rfl (by decide +kernel) ⟨Nat.le_of_ble_eq_true rfl, Nat.le_of_ble_eq_true rfl⟩) rfl hl.1 rfl (Nat.le_of_ble_eq_true rfl) dX6_roomIn_123 (Nat.le_refl 0) (Nat.le_refl 0) (fun r3 S1 M2 H locs hF hH => ?_)
    obtain ⟨hF, e9, e8⟩ := hF; subst e9; subst e8
    refine lv_if_ne (tgt := 133) hx hb dX6_roomIn_126 (by decide) (fun cd => ?_) (fun cd => ?_)
    · have hF := hF.1 cd
      refine lv_iconst (v := 0) hx hb dX6_roomIn_133 (by decide) ?_
      exact zm_iret X hH rfl rfl ⟨hF, eS, eM⟩ dX6_roomIn_134
    · have hF := hF.2 cd
      refine lv_iconst (v := 1) hx hb dX6_roomIn_129 (by decide) ?_
      refine lv_goto (tgt := 134) hx hb dX6_roomIn_130 (by decide) ?_
      exact zm_iret X hH rfl rfl ⟨hF, eS, eM⟩ dX6_roomIn_134
set_option maxHeartbeats 4000000 in
set_option maxRecDepth 100000 in
theorem wm_roomIn_108 {p : Program} {l : Launch} {e : Env} {s : State} {m : MethodId} {args : Array Value} {below : List Frame} {meth : Method} {c : Code} {D : va_G} {cI cZ : ClassId} {ad : Nat → Nat} {o : Nat} {Q : Int32 → Prop} {S0 : Nat → Int32} {M0 : Nat → Nat → Int32} (X : zm_Cx p s m args meth c cX6_roomIn 6 (some .int) D cI cZ ad o) :
    ∀ (S : Nat → Int32) (M : Nat → Nat → Int32) (v4 : Int32), fm_roomIn_108 Q S M v4 → ∀ (H : Heap) (locs : List Loc) (ls : Array Slot), S0 = S → M0 = M → lv_has ls 6 [(0, .ref o), (4, .int v4)] → zm_H D cI cZ ad o S M s H locs → W p l e (zm_R 1) s m args below meth c H locs 0 0 (MQ below (zm_QS (fun r S1 M1 => Q r ∧ S0 = S1 ∧ M0 = M1) D cI cZ ad o) args s 0 0 (zm_A ad o)) (F0 m 108 ls []) := by
  have hx := X.1
  have hb := X.2.1
  intro S M v4 hF
  intro H locs ls eS eM hl hH
  unfold fm_roomIn_108 at hF
  refine lv_iconst (v := 1) hx hb dX6_roomIn_108 (by decide) ?_
  refine lv_goto (tgt := 113) hx hb dX6_roomIn_109 (by decide) ?_
  exact wm_roomIn_113 X S M v4 1 hF _ _ _ eS eM (lv_sub hl [0, 1] rfl) hH
set_option maxHeartbeats 4000000 in
set_option maxRecDepth 100000 in
/-- roomIn: what the bytecode asks is what its run needs -/
theorem wm_roomIn (l : Launch) (D : va_G) (cI cZ : ClassId) (ad : Nat → Nat) (o : Nat) (hAd : zm_Ad ad o) (S : Nat → Int32) (M : Nat → Nat → Int32) (v1 : Int32) (v2 : Int32) (Q : Int32 → Prop) (hF : fm_roomIn S M v1 v2 Q) :
    zm_Mi l yX6_roomIn (ws_ yX6_roomIn cX6_roomIn 6 (some .int)) 1 D cI cZ ad o [.int v1, .int v2] S M (fun r S1 M1 => Q r ∧ S = S1 ∧ M = M1) := by
  refine zm_ofi rfl hAd (Nat.le_of_ble_eq_true rfl) ?_
  intro p e s m args below meth c H locs ls X hH hl
  have hx := X.1
  have hb := X.2.1
  have hl : lv_has ls 6 [(0, .ref o), (1, .int v1), (2, .int v2)] := hl
  unfold fm_roomIn at hF
  refine lv_aload_n hx hb dX6_roomIn_0 rfl (lv_at hl 0 rfl) ?_
  refine zm_getf X hH 10 (by decide) rfl q1723 dX6_roomIn_1 ?_
  refine lv_iload_n hx hb dX6_roomIn_4 rfl (lv_at hl 1 rfl) ?_
  obtain ⟨hI, hF⟩ := hF
  refine zm_iald X hH 10 (by decide) rfl (n := 150) rfl hI dX6_roomIn_5 ?_
  refine lv_iconst (v := 5) hx hb dX6_roomIn_6 (by decide) ?_
  refine lv_icmp_ne (tgt := 27) hx hb dX6_roomIn_7 (by decide) (fun cd => ?_) (fun cd => ?_)
  · have hF := hF.1 cd
    refine lv_aload_n hx hb dX6_roomIn_27 rfl (lv_at hl 0 rfl) ?_
    refine zm_getf X hH 24 (by decide) rfl q1737 dX6_roomIn_28 ?_
    refine lv_bipush (v := 8) hx hb dX6_roomIn_31 (by decide) ?_
    refine lv_iload_n hx hb dX6_roomIn_33 rfl (lv_at hl 1 rfl) ?_
    refine lv_imul hx hb dX6_roomIn_34 ?_
    refine lv_iconst (v := 2) hx hb dX6_roomIn_35 (by decide) ?_
    refine lv_iload_n hx hb dX6_roomIn_36 rfl (lv_at hl 2 rfl) ?_
    refine lv_imul hx hb dX6_roomIn_37 ?_
    refine lv_iadd hx hb dX6_roomIn_38 ?_
    obtain ⟨hI, hF⟩ := hF
    refine zm_iald X hH 24 (by decide) rfl (n := 1200) rfl hI dX6_roomIn_39 ?_
    refine lv_topi (fun x1 ex1 => ?_)
    have hF := hF x1 ex1
    refine lv_istore_n (lv' := [(3, .int x1), (0, .ref o), (1, .int v1), (2, .int v2)]) hx hb dX6_roomIn_40 rfl hl (by decide) rfl (fun ls hl => ?_)
    refine lv_aload_n hx hb dX6_roomIn_41 rfl (lv_at hl 1 rfl) ?_
    refine zm_getf X hH 24 (by decide) rfl q1737 dX6_roomIn_42 ?_
    refine lv_bipush (v := 8) hx hb dX6_roomIn_45 (by decide) ?_
    refine lv_iload_n hx hb dX6_roomIn_47 rfl (lv_at hl 2 rfl) ?_
    refine lv_imul hx hb dX6_roomIn_48 ?_
    refine lv_iconst (v := 2) hx hb dX6_roomIn_49 (by decide) ?_
    refine lv_iload_n hx hb dX6_roomIn_50 rfl (lv_at hl 3 rfl) ?_
    refine lv_imul hx hb dX6_roomIn_51 ?_
    refine lv_iadd hx hb dX6_roomIn_52 ?_
    refine lv_iconst (v := 1) hx hb dX6_roomIn_53 (by decide) ?_
    refine lv_iadd hx hb dX6_roomIn_54 ?_
    obtain ⟨hI, hF⟩ := hF
    refine zm_iald X hH 24 (by decide) rfl (n := 1200) rfl hI dX6_roomIn_55 ?_
    refine lv_topi (fun x2 ex2 => ?_)
    have hF := hF x2 ex2
    refine lv_istore (lv' := [(4, .int x2), (3, .int x1), (0, .ref o), (1, .int v1), (2, .int v2)]) hx hb dX6_roomIn_56 hl (by decide) rfl (fun ls hl => ?_)
    refine lv_aload_n hx hb dX6_roomIn_58 rfl (lv_at hl 2 rfl) ?_
    refine zm_getf X hH 10 (by decide) rfl q1723 dX6_roomIn_59 ?_
    refine lv_iload_n hx hb dX6_roomIn_62 rfl (lv_at hl 3 rfl) ?_
    obtain ⟨hI, hF⟩ := hF
    refine zm_iald X hH 10 (by decide) rfl (n := 150) rfl hI dX6_roomIn_63 ?_
    refine lv_iconst (v := 4) hx hb dX6_roomIn_64 (by decide) ?_
    refine lv_icmp_ne (tgt := 78) hx hb dX6_roomIn_65 (by decide) (fun cd => ?_) (fun cd => ?_)
    · have hF := hF.1 cd
      refine lv_aload_n hx hb dX6_roomIn_78 rfl (lv_at hl 2 rfl) ?_
      refine lv_iload_n hx hb dX6_roomIn_79 rfl (lv_at hl 1 rfl) ?_
      refine zm_calli (As := [.int x1]) (rest := []) X hH (wm_rests l D cI cZ ad o X.2.2.2.2.2.2.2.2 S M x1 _ hF) (cwV 1 X.2.2.2.2.1 (lw_V q2027 q2029 qs66 q95 q2030) rfl rfl rfl (by decide +kernel) ⟨Nat.le_of_ble_eq_true rfl, Nat.le_of_ble_eq_true rfl⟩) rfl hl.1 rfl (Nat.le_of_ble_eq_true rfl) dX6_roomIn_80 (Nat.le_refl 0) (Nat.le_refl 0) (fun r5 S3 M4 H locs hF hH => ?_)
      obtain ⟨hF, e9, e8⟩ := hF; subst e9; subst e8
      refine lv_if_eq (tgt := 88) hx hb dX6_roomIn_83 (by decide) (fun cd => ?_) (fun cd => ?_)
      · have hF := hF.1 cd
        refine lv_aload_n hx hb dX6_roomIn_88 rfl (lv_at hl 2 rfl) ?_
        refine zm_getf X hH 10 (by decide) rfl q1723 dX6_roomIn_89 ?_
        refine lv_iload_n hx hb dX6_roomIn_92 rfl (lv_at hl 3 rfl) ?_
        obtain ⟨hI, hF⟩ := hF
        refine zm_iald X hH 10 (by decide) rfl (n := 150) rfl hI dX6_roomIn_93 ?_
        refine lv_iconst (v := 2) hx hb dX6_roomIn_94 (by decide) ?_
        refine lv_icmp_eq (tgt := 108) hx hb dX6_roomIn_95 (by decide) (fun cd => ?_) (fun cd => ?_)
        · have hF := hF.1 cd
          exact wm_roomIn_108 X S M x2 hF _ _ _ rfl rfl (lv_sub hl [2, 0] rfl) hH
        · have hF := hF.2 cd
          refine lv_aload_n hx hb dX6_roomIn_98 rfl (lv_at hl 2 rfl) ?_
          refine zm_getf X hH 10 (by decide) rfl q1723 dX6_roomIn_99 ?_
          refine lv_iload_n hx hb dX6_roomIn_102 rfl (lv_at hl 3 rfl) ?_
          obtain ⟨hI, hF⟩ := hF
          refine zm_iald X hH 10 (by decide) rfl (n := 150) rfl hI dX6_roomIn_103 ?_
          refine lv_iconst (v := 3) hx hb dX6_roomIn_104 (by decide) ?_
          refine lv_icmp_ne (tgt := 112) hx hb dX6_roomIn_105 (by decide) (fun cd => ?_) (fun cd => ?_)
          · have hF := hF.1 cd
            refine lv_iconst (v := 0) hx hb dX6_roomIn_112 (by decide) ?_
            exact wm_roomIn_113 X S M x2 0 hF _ _ _ rfl rfl (lv_sub hl [2, 0] rfl) hH
          · have hF := hF.2 cd
            exact wm_roomIn_108 X S M x2 hF _ _ _ rfl rfl (lv_sub hl [2, 0] rfl) hH
      · have hF := hF.2 cd
        refine lv_iconst (v := (-1)) hx hb dX6_roomIn_86 (by decide) ?_
        exact zm_iret X hH rfl rfl ⟨hF, rfl, rfl⟩ dX6_roomIn_87
    · have hF := hF.2 cd
      refine lv_iload_n hx hb dX6_roomIn_68 rfl (lv_at hl 1 rfl) ?_
      refine lv_if_ge (tgt := 76) hx hb dX6_roomIn_69 (by decide) (fun cd => ?_) (fun cd => ?_)
      · have hF := hF.1 cd
        refine lv_iconst (v := (-1)) hx hb dX6_roomIn_76 (by decide) ?_
        exact zm_iret X hH rfl rfl ⟨hF, rfl, rfl⟩ dX6_roomIn_77
      · have hF := hF.2 cd
        refine lv_iconst (v := 0) hx hb dX6_roomIn_72 (by decide) ?_
        refine lv_goto (tgt := 77) hx hb dX6_roomIn_73 (by decide) ?_
        exact zm_iret X hH rfl rfl ⟨hF, rfl, rfl⟩ dX6_roomIn_77
  · have hF := hF.2 cd
    refine lv_aload_n hx hb dX6_roomIn_10 rfl (lv_at hl 0 rfl) ?_
    refine zm_getf X hH 26 (by decide) rfl q1739 dX6_roomIn_11 ?_
    refine lv_iload_n hx hb dX6_roomIn_14 rfl (lv_at hl 1 rfl) ?_
    obtain ⟨hI, hF⟩ := hF
    refine zm_iald X hH 26 (by decide) rfl (n := 150) rfl hI dX6_roomIn_15 ?_
    refine lv_bipush (v := 40) hx hb dX6_roomIn_16 (by decide) ?_
    refine lv_icmp_ge (tgt := 25) hx hb dX6_roomIn_18 (by decide) (fun cd => ?_) (fun cd => ?_)
    · have hF := hF.1 cd
      refine lv_iconst (v := (-1)) hx hb dX6_roomIn_25 (by decide) ?_
      exact zm_iret X hH rfl rfl ⟨hF, rfl, rfl⟩ dX6_roomIn_26
    · have hF := hF.2 cd
      refine lv_iconst (v := 0) hx hb dX6_roomIn_21 (by decide) ?_
      refine lv_goto (tgt := 26) hx hb dX6_roomIn_22 (by decide) ?_
      exact zm_iret X hH rfl rfl ⟨hF, rfl, rfl⟩ dX6_roomIn_26
set_option maxHeartbeats 4000000 in
set_option maxRecDepth 100000 in
theorem wm_whyNot_183 {p : Program} {l : Launch} {e : Env} {s : State} {m : MethodId} {args : Array Value} {below : List Frame} {meth : Method} {c : Code} {D : va_G} {cI cZ : ClassId} {ad : Nat → Nat} {o : Nat} {Q : Int32 → Prop} {S0 : Nat → Int32} {M0 : Nat → Nat → Int32} (X : zm_Cx p s m args meth c cX6_whyNot 7 (some .int) D cI cZ ad o) :
    ∀ (S : Nat → Int32) (M : Nat → Nat → Int32) (t0 : Int32) (t1 : Int32), fm_whyNot_183 Q S M t0 t1 → ∀ (H : Heap) (locs : List Loc) (ls : Array Slot), S0 = S → M0 = M → lv_has ls 7 [(0, .ref o)] → zm_H D cI cZ ad o S M s H locs → W p l e (zm_R 2) s m args below meth c H locs 0 0 (MQ below (zm_QS (fun r S1 M1 => Q r ∧ S0 = S1 ∧ M0 = M1) D cI cZ ad o) args s 0 0 (zm_A ad o)) (F0 m 183 ls [.int t1, .int t0]) := by
  have hx := X.1
  have hb := X.2.1
  intro S M t0 t1 hF
  intro H locs ls eS eM hl hH
  unfold fm_whyNot_183 at hF
  refine lv_icmp_ge (tgt := 191) hx hb dX6_whyNot_183 (by decide) (fun cd => ?_) (fun cd => ?_)
  · have hF := hF.1 cd
    refine lv_iconst (v := 0) hx hb dX6_whyNot_191 (by decide) ?_
    exact zm_iret X hH rfl rfl ⟨hF, eS, eM⟩ dX6_whyNot_192
  · have hF := hF.2 cd
    refine lv_bipush (v := 7) hx hb dX6_whyNot_186 (by decide) ?_
    refine lv_goto (tgt := 192) hx hb dX6_whyNot_188 (by decide) ?_
    exact zm_iret X hH rfl rfl ⟨hF, eS, eM⟩ dX6_whyNot_192
set_option maxHeartbeats 4000000 in
set_option maxRecDepth 100000 in
theorem wm_whyNot_112 {p : Program} {l : Launch} {e : Env} {s : State} {m : MethodId} {args : Array Value} {below : List Frame} {meth : Method} {c : Code} {D : va_G} {cI cZ : ClassId} {ad : Nat → Nat} {o : Nat} {Q : Int32 → Prop} {S0 : Nat → Int32} {M0 : Nat → Nat → Int32} (X : zm_Cx p s m args meth c cX6_whyNot 7 (some .int) D cI cZ ad o) :
    ∀ (S : Nat → Int32) (M : Nat → Nat → Int32) (v1 : Int32) (v2 : Int32) (v3 : Int32) (v4 : Int32) (v5 : Int32) (v6 : Int32), fm_whyNot_112 Q S M v1 v2 v3 v4 v5 v6 → ∀ (H : Heap) (locs : List Loc) (ls : Array Slot), S0 = S → M0 = M → lv_has ls 7 [(0, .ref o), (1, .int v1), (2, .int v2), (3, .int v3), (4, .int v4), (5, .int v5), (6, .int v6)] → zm_H D cI cZ ad o S M s H locs → W p l e (zm_R 2) s m args below meth c H locs 0 0 (MQ below (zm_QS (fun r S1 M1 => Q r ∧ S0 = S1 ∧ M0 = M1) D cI cZ ad o) args s 0 0 (zm_A ad o)) (F0 m 112 ls []) := by
  have hx := X.1
  have hb := X.2.1
  intro S M v1 v2 v3 v4 v5 v6 hF
  intro H locs ls eS eM hl hH
  unfold fm_whyNot_112 at hF
  refine lv_aload_n hx hb dX6_whyNot_112 rfl (lv_at hl 0 rfl) ?_
  refine lv_iload_n hx hb dX6_whyNot_113 rfl (lv_at hl 1 rfl) ?_
  refine lv_iload_n hx hb dX6_whyNot_114 rfl (lv_at hl 2 rfl) ?_
  refine zm_calli (As := [.int v1, .int v2]) (rest := []) X hH (wm_roomIn l D cI cZ ad o X.2.2.2.2.2.2.2.2 S M v1 v2 _ hF) (cwV 2 X.2.2.2.2.1 (lw_V q2023 q2025 qs65 q95 q2026) rfl rfl rfl (by decide +kernel) ⟨Nat.le_of_ble_eq_true rfl, Nat.le_of_ble_eq_true rfl⟩) rfl hl.1 rfl (Nat.le_of_ble_eq_true rfl) dX6_whyNot_115 (Nat.le_refl 0) (Nat.le_refl 0) (fun r3 S1 M2 H locs hF hH => ?_)
  obtain ⟨hF, e9, e8⟩ := hF; subst e9; subst e8
  refine lv_if_ge (tgt := 123) hx hb dX6_whyNot_118 (by decide) (fun cd => ?_) (fun cd => ?_)
  · have hF := hF.1 cd
    refine lv_aload_n hx hb dX6_whyNot_123 rfl (lv_at hl 0 rfl) ?_
    refine zm_getf X hH 10 (by decide) rfl q1723 dX6_whyNot_124 ?_
    refine lv_iload_n hx hb dX6_whyNot_127 rfl (lv_at hl 1 rfl) ?_
    obtain ⟨hI, hF⟩ := hF
    refine zm_iald X hH 10 (by decide) rfl (n := 150) rfl hI dX6_whyNot_128 ?_
    refine lv_iconst (v := 5) hx hb dX6_whyNot_129 (by decide) ?_
    refine lv_icmp_ne (tgt := 135) hx hb dX6_whyNot_130 (by decide) (fun cd => ?_) (fun cd => ?_)
    · have hF := hF.1 cd
      refine lv_aload_n hx hb dX6_whyNot_135 rfl (lv_at hl 0 rfl) ?_
      refine lv_iload_n hx hb dX6_whyNot_136 rfl (lv_at hl 1 rfl) ?_
      refine lv_iload_n hx hb dX6_whyNot_137 rfl (lv_at hl 3 rfl) ?_
      refine zm_calli (As := [.int v1, .int v3]) (rest := []) X hH (wm_isAgreed l D cI cZ ad o X.2.2.2.2.2.2.2.2 S M v1 v3 _ hF) (cwV 2 X.2.2.2.2.1 (lw_V q2031 q2033 qs67 q95 q2034) rfl rfl rfl (by decide +kernel) ⟨Nat.le_of_ble_eq_true rfl, Nat.le_of_ble_eq_true rfl⟩) rfl hl.1 rfl (Nat.le_of_ble_eq_true rfl) dX6_whyNot_138 (Nat.le_refl 0) (Nat.le_refl 0) (fun r6 S4 M5 H locs hF hH => ?_)
      obtain ⟨hF, e9, e8⟩ := hF; subst e9; subst e8
      refine lv_if_ne (tgt := 147) hx hb dX6_whyNot_141 (by decide) (fun cd => ?_) (fun cd => ?_)
      · have hF := hF.1 cd
        refine lv_aload_n hx hb dX6_whyNot_147 rfl (lv_at hl 0 rfl) ?_
        refine zm_getf X hH 13 (by decide) rfl q1726 dX6_whyNot_148 ?_
        refine lv_iload_n hx hb dX6_whyNot_151 rfl (lv_at hl 1 rfl) ?_
        obtain ⟨hI, hF⟩ := hF
        refine zm_iald X hH 13 (by decide) rfl (n := 150) rfl hI dX6_whyNot_152 ?_
        refine lv_sipush (v := 7300) hx hb dX6_whyNot_153 (by decide) ?_
        refine lv_iadd hx hb dX6_whyNot_156 ?_
        refine lv_iload hx hb dX6_whyNot_157 (lv_at hl 6 rfl) ?_
        refine lv_if_eq (tgt := 167) hx hb dX6_whyNot_159 (by decide) (fun cd => ?_) (fun cd => ?_)
        · have hF := hF.1 cd
          refine lv_aload_n hx hb dX6_whyNot_167 rfl (lv_at hl 0 rfl) ?_
          refine zm_getf X hH 1 (by decide) rfl q1714 dX6_whyNot_168 ?_
          refine lv_sipush (v := 365) hx hb dX6_whyNot_171 (by decide) ?_
          refine lv_aload_n hx hb dX6_whyNot_174 rfl (lv_at hl 0 rfl) ?_
          refine lv_iload hx hb dX6_whyNot_175 (lv_at hl 4 rfl) ?_
          refine lv_iload_n hx hb dX6_whyNot_177 rfl (lv_at hl 1 rfl) ?_
          refine zm_calli (As := [.int v4, .int v1]) (rest := [.int 365, .int (S 1), .int ((M 13 v1.toNatClampNeg) + 7300)]) X hH (wm_yearsOf l D cI cZ ad o X.2.2.2.2.2.2.2.2 S M v4 v1 _ hF) (cwV 2 X.2.2.2.2.1 (lw_V q2035 q2037 qs68 q95 q2038) rfl rfl rfl (by decide +kernel) ⟨Nat.le_of_ble_eq_true rfl, Nat.le_of_ble_eq_true rfl⟩) rfl hl.1 rfl (Nat.le_of_ble_eq_true rfl) dX6_whyNot_178 (Nat.le_refl 0) (Nat.le_refl 0) (fun r9 S7 M8 H locs hF hH => ?_)
          obtain ⟨hF, e9, e8⟩ := hF; subst e9; subst e8
          refine lv_imul hx hb dX6_whyNot_181 ?_
          refine lv_iadd hx hb dX6_whyNot_182 ?_
          exact wm_whyNot_183 X S M ((M 13 v1.toNatClampNeg) + 7300) ((S 1) + (365 * r9)) hF _ _ _ eS eM (lv_sub hl [0] rfl) hH
        · have hF := hF.2 cd
          refine lv_iload hx hb dX6_whyNot_162 (lv_at hl 5 rfl) ?_
          refine lv_goto (tgt := 183) hx hb dX6_whyNot_164 (by decide) ?_
          exact wm_whyNot_183 X S M ((M 13 v1.toNatClampNeg) + 7300) v5 hF _ _ _ eS eM (lv_sub hl [0] rfl) hH
      · have hF := hF.2 cd
        refine lv_bipush (v := 6) hx hb dX6_whyNot_144 (by decide) ?_
        exact zm_iret X hH rfl rfl ⟨hF, eS, eM⟩ dX6_whyNot_146
    · have hF := hF.2 cd
      refine lv_iconst (v := 0) hx hb dX6_whyNot_133 (by decide) ?_
      exact zm_iret X hH rfl rfl ⟨hF, eS, eM⟩ dX6_whyNot_134
  · have hF := hF.2 cd
    refine lv_iconst (v := 5) hx hb dX6_whyNot_121 (by decide) ?_
    exact zm_iret X hH rfl rfl ⟨hF, eS, eM⟩ dX6_whyNot_122
set_option maxHeartbeats 4000000 in
set_option maxRecDepth 100000 in
theorem wm_whyNot_90 {p : Program} {l : Launch} {e : Env} {s : State} {m : MethodId} {args : Array Value} {below : List Frame} {meth : Method} {c : Code} {D : va_G} {cI cZ : ClassId} {ad : Nat → Nat} {o : Nat} {Q : Int32 → Prop} {S0 : Nat → Int32} {M0 : Nat → Nat → Int32} (X : zm_Cx p s m args meth c cX6_whyNot 7 (some .int) D cI cZ ad o) :
    ∀ (S : Nat → Int32) (M : Nat → Nat → Int32) (v1 : Int32) (v2 : Int32) (v3 : Int32) (v4 : Int32) (v5 : Int32) (v6 : Int32), fm_whyNot_90 Q S M v1 v2 v3 v4 v5 v6 → ∀ (H : Heap) (locs : List Loc) (ls : Array Slot), S0 = S → M0 = M → lv_has ls 7 [(0, .ref o), (1, .int v1), (2, .int v2), (3, .int v3), (4, .int v4), (5, .int v5), (6, .int v6)] → zm_H D cI cZ ad o S M s H locs → W p l e (zm_R 2) s m args below meth c H locs 0 0 (MQ below (zm_QS (fun r S1 M1 => Q r ∧ S0 = S1 ∧ M0 = M1) D cI cZ ad o) args s 0 0 (zm_A ad o)) (F0 m 90 ls []) := by
  have hx := X.1
  have hb := X.2.1
  intro S M v1 v2 v3 v4 v5 v6 hF
  intro H locs ls eS eM hl hH
  unfold fm_whyNot_90 at hF
  refine lv_aload_n hx hb dX6_whyNot_90 rfl (lv_at hl 0 rfl) ?_
  refine zm_getf X hH 10 (by decide) rfl q1723 dX6_whyNot_91 ?_
  refine lv_iload_n hx hb dX6_whyNot_94 rfl (lv_at hl 1 rfl) ?_
  obtain ⟨hI, hF⟩ := hF
  refine zm_iald X hH 10 (by decide) rfl (n := 150) rfl hI dX6_whyNot_95 ?_
  refine lv_iconst (v := 5) hx hb dX6_whyNot_96 (by decide) ?_
  refine lv_icmp_eq (tgt := 112) hx hb dX6_whyNot_97 (by decide) (fun cd => ?_) (fun cd => ?_)
  · have hF := hF.1 cd
    exact wm_whyNot_112 X S M v1 v2 v3 v4 v5 v6 hF _ _ _ eS eM (lv_sub hl [0, 1, 2, 3, 4, 5, 6] rfl) hH
  · have hF := hF.2 cd
    refine lv_aload_n hx hb dX6_whyNot_100 rfl (lv_at hl 0 rfl) ?_
    refine zm_getf X hH 11 (by decide) rfl q1724 dX6_whyNot_101 ?_
    refine lv_iload_n hx hb dX6_whyNot_104 rfl (lv_at hl 1 rfl) ?_
    obtain ⟨hI, hF⟩ := hF
    refine zm_iald X hH 11 (by decide) rfl (n := 150) rfl hI dX6_whyNot_105 ?_
    refine lv_iconst (v := 1) hx hb dX6_whyNot_106 (by decide) ?_
    refine lv_icmp_eq (tgt := 112) hx hb dX6_whyNot_107 (by decide) (fun cd => ?_) (fun cd => ?_)
    · have hF := hF.1 cd
      exact wm_whyNot_112 X S M v1 v2 v3 v4 v5 v6 hF _ _ _ eS eM (lv_sub hl [0, 1, 2, 3, 4, 5, 6] rfl) hH
    · have hF := hF.2 cd
      refine lv_iconst (v := 4) hx hb dX6_whyNot_110 (by decide) ?_
      exact zm_iret X hH rfl rfl ⟨hF, eS, eM⟩ dX6_whyNot_111
set_option maxHeartbeats 4000000 in
set_option maxRecDepth 100000 in
/-- whyNot: what the bytecode asks is what its run needs -/
theorem wm_whyNot (l : Launch) (D : va_G) (cI cZ : ClassId) (ad : Nat → Nat) (o : Nat) (hAd : zm_Ad ad o) (S : Nat → Int32) (M : Nat → Nat → Int32) (v1 : Int32) (v2 : Int32) (v3 : Int32) (v4 : Int32) (v5 : Int32) (v6 : Int32) (Q : Int32 → Prop) (hF : fm_whyNot S M v1 v2 v3 v4 v5 v6 Q) :
    zm_Mi l yX6_whyNot (ws_ yX6_whyNot cX6_whyNot 7 (some .int)) 2 D cI cZ ad o [.int v1, .int v2, .int v3, .int v4, .int v5, .int v6] S M (fun r S1 M1 => Q r ∧ S = S1 ∧ M = M1) := by
  refine zm_ofi rfl hAd (Nat.le_of_ble_eq_true rfl) ?_
  intro p e s m args below meth c H locs ls X hH hl
  have hx := X.1
  have hb := X.2.1
  have hl : lv_has ls 7 [(0, .ref o), (1, .int v1), (2, .int v2), (3, .int v3), (4, .int v4), (5, .int v5), (6, .int v6)] := hl
  unfold fm_whyNot at hF
  refine lv_aload_n hx hb dX6_whyNot_0 rfl (lv_at hl 0 rfl) ?_
  refine lv_iload_n hx hb dX6_whyNot_1 rfl (lv_at hl 1 rfl) ?_
  refine zm_calli (As := [.int v1]) (rest := []) X hH (wm_isGrave l D cI cZ ad o X.2.2.2.2.2.2.2.2 S M v1 _ hF) (cwV 1 X.2.2.2.2.1 (lw_V q1953 q1955 qs48 q95 q1956) rfl rfl rfl (by decide +kernel) ⟨Nat.le_of_ble_eq_true rfl, Nat.le_of_ble_eq_true rfl⟩) rfl hl.1 rfl (Nat.le_of_ble_eq_true rfl) dX6_whyNot_2 (Nat.le_refl 0) (Nat.le_refl 0) (fun r3 S1 M2 H locs hF hH => ?_)
  obtain ⟨hF, e9, e8⟩ := hF; subst e9; subst e8
  refine lv_if_eq (tgt := 50) hx hb dX6_whyNot_5 (by decide) (fun cd => ?_) (fun cd => ?_)
  · have hF := hF.1 cd
    refine lv_iconst (v := 1) hx hb dX6_whyNot_50 (by decide) ?_
    exact zm_iret X hH rfl rfl ⟨hF, rfl, rfl⟩ dX6_whyNot_51
  · have hF := hF.2 cd
    refine lv_aload_n hx hb dX6_whyNot_8 rfl (lv_at hl 0 rfl) ?_
    refine zm_getf X hH 11 (by decide) rfl q1724 dX6_whyNot_9 ?_
    refine lv_iload_n hx hb dX6_whyNot_12 rfl (lv_at hl 1 rfl) ?_
    obtain ⟨hI, hF⟩ := hF
    refine zm_iald X hH 11 (by decide) rfl (n := 150) rfl hI dX6_whyNot_13 ?_
    refine lv_iconst (v := 4) hx hb dX6_whyNot_14 (by decide) ?_
    refine lv_icmp_eq (tgt := 50) hx hb dX6_whyNot_15 (by decide) (fun cd => ?_) (fun cd => ?_)
    · have hF := hF.1 cd
      refine lv_iconst (v := 1) hx hb dX6_whyNot_50 (by decide) ?_
      exact zm_iret X hH rfl rfl ⟨hF, rfl, rfl⟩ dX6_whyNot_51
    · have hF := hF.2 cd
      refine lv_iload_n hx hb dX6_whyNot_18 rfl (lv_at hl 2 rfl) ?_
      refine lv_if_lt (tgt := 50) hx hb dX6_whyNot_19 (by decide) (fun cd => ?_) (fun cd => ?_)
      · have hF := hF.1 cd
        refine lv_iconst (v := 1) hx hb dX6_whyNot_50 (by decide) ?_
        exact zm_iret X hH rfl rfl ⟨hF, rfl, rfl⟩ dX6_whyNot_51
      · have hF := hF.2 cd
        refine lv_iload_n hx hb dX6_whyNot_22 rfl (lv_at hl 2 rfl) ?_
        refine lv_aload_n hx hb dX6_whyNot_23 rfl (lv_at hl 0 rfl) ?_
        refine lv_iload_n hx hb dX6_whyNot_24 rfl (lv_at hl 1 rfl) ?_
        refine zm_calli (As := [.int v1]) (rest := [.int v2]) X hH (wm_columns l D cI cZ ad o X.2.2.2.2.2.2.2.2 S M v1 _ hF) (cwV 1 X.2.2.2.2.1 (lw_V q2015 q2017 qs63 q95 q2018) rfl rfl rfl (by decide +kernel) ⟨Nat.le_of_ble_eq_true rfl, Nat.le_of_ble_eq_true rfl⟩) rfl hl.1 rfl (Nat.le_of_ble_eq_true rfl) dX6_whyNot_25 (Nat.le_refl 0) (Nat.le_refl 0) (fun r6 S4 M5 H locs hF hH => ?_)
        obtain ⟨hF, e9, e8⟩ := hF; subst e9; subst e8
        refine lv_icmp_ge (tgt := 50) hx hb dX6_whyNot_28 (by decide) (fun cd => ?_) (fun cd => ?_)
        · have hF := hF.1 cd
          refine lv_iconst (v := 1) hx hb dX6_whyNot_50 (by decide) ?_
          exact zm_iret X hH rfl rfl ⟨hF, rfl, rfl⟩ dX6_whyNot_51
        · have hF := hF.2 cd
          refine lv_aload_n hx hb dX6_whyNot_31 rfl (lv_at hl 0 rfl) ?_
          refine lv_iload_n hx hb dX6_whyNot_32 rfl (lv_at hl 3 rfl) ?_
          refine zm_calli (As := [.int v3]) (rest := []) X hH (wm_isPerson l D cI cZ ad o X.2.2.2.2.2.2.2.2 S M v3 _ hF) (cwV 1 X.2.2.2.2.1 (lw_V q1941 q1943 qs45 q95 q1944) rfl rfl rfl (by decide +kernel) ⟨Nat.le_of_ble_eq_true rfl, Nat.le_of_ble_eq_true rfl⟩) rfl hl.1 rfl (Nat.le_of_ble_eq_true rfl) dX6_whyNot_33 (Nat.le_refl 0) (Nat.le_refl 0) (fun r9 S7 M8 H locs hF hH => ?_)
          obtain ⟨hF, e9, e8⟩ := hF; subst e9; subst e8
          refine lv_if_eq (tgt := 50) hx hb dX6_whyNot_36 (by decide) (fun cd => ?_) (fun cd => ?_)
          · have hF := hF.1 cd
            refine lv_iconst (v := 1) hx hb dX6_whyNot_50 (by decide) ?_
            exact zm_iret X hH rfl rfl ⟨hF, rfl, rfl⟩ dX6_whyNot_51
          · have hF := hF.2 cd
            refine lv_iload hx hb dX6_whyNot_39 (lv_at hl 4 rfl) ?_
            refine lv_if_lt (tgt := 50) hx hb dX6_whyNot_41 (by decide) (fun cd => ?_) (fun cd => ?_)
            · have hF := hF.1 cd
              refine lv_iconst (v := 1) hx hb dX6_whyNot_50 (by decide) ?_
              exact zm_iret X hH rfl rfl ⟨hF, rfl, rfl⟩ dX6_whyNot_51
            · have hF := hF.2 cd
              refine lv_iload hx hb dX6_whyNot_44 (lv_at hl 4 rfl) ?_
              refine lv_iconst (v := 2) hx hb dX6_whyNot_46 (by decide) ?_
              refine lv_icmp_le (tgt := 52) hx hb dX6_whyNot_47 (by decide) (fun cd => ?_) (fun cd => ?_)
              · have hF := hF.1 cd
                refine lv_aload_n hx hb dX6_whyNot_52 rfl (lv_at hl 0 rfl) ?_
                refine lv_iload_n hx hb dX6_whyNot_53 rfl (lv_at hl 1 rfl) ?_
                refine lv_iload hx hb dX6_whyNot_54 (lv_at hl 4 rfl) ?_
                refine zm_calli (As := [.int v1, .int v4]) (rest := []) X hH (wm_takesKind l D cI cZ ad o X.2.2.2.2.2.2.2.2 S M v1 v4 _ hF) (cwV 2 X.2.2.2.2.1 (lw_V q2019 q2021 qs64 q95 q2022) rfl rfl rfl (by decide +kernel) ⟨Nat.le_of_ble_eq_true rfl, Nat.le_of_ble_eq_true rfl⟩) rfl hl.1 rfl (Nat.le_of_ble_eq_true rfl) dX6_whyNot_56 (Nat.le_refl 0) (Nat.le_refl 0) (fun r12 S10 M11 H locs hF hH => ?_)
                obtain ⟨hF, e9, e8⟩ := hF; subst e9; subst e8
                refine lv_if_ne (tgt := 64) hx hb dX6_whyNot_59 (by decide) (fun cd => ?_) (fun cd => ?_)
                · have hF := hF.1 cd
                  refine lv_iload hx hb dX6_whyNot_64 (lv_at hl 6 rfl) ?_
                  refine lv_if_ne (tgt := 90) hx hb dX6_whyNot_66 (by decide) (fun cd => ?_) (fun cd => ?_)
                  · have hF := hF.1 cd
                    exact wm_whyNot_90 X S M v1 v2 v3 v4 v5 v6 hF _ _ _ rfl rfl (lv_sub hl [0, 1, 2, 3, 4, 5, 6] rfl) hH
                  · have hF := hF.2 cd
                    refine lv_aload_n hx hb dX6_whyNot_69 rfl (lv_at hl 0 rfl) ?_
                    refine zm_getf X hH 29 (by decide) rfl q1742 dX6_whyNot_70 ?_
                    refine lv_iload_n hx hb dX6_whyNot_73 rfl (lv_at hl 3 rfl) ?_
                    obtain ⟨hI, hF⟩ := hF
                    refine zm_zald X hH 29 (by decide) rfl (n := 150) rfl hI dX6_whyNot_74 ?_
                    refine lv_if_eq (tgt := 88) hx hb dX6_whyNot_75 (by decide) (fun cd => ?_) (fun cd => ?_)
                    · have hF := hF.1 cd
                      refine lv_iconst (v := 3) hx hb dX6_whyNot_88 (by decide) ?_
                      exact zm_iret X hH rfl rfl ⟨hF, rfl, rfl⟩ dX6_whyNot_89
                    · have hF := hF.2 cd
                      refine lv_aload_n hx hb dX6_whyNot_78 rfl (lv_at hl 0 rfl) ?_
                      refine zm_getf X hH 30 (by decide) rfl q1743 dX6_whyNot_79 ?_
                      refine lv_iload_n hx hb dX6_whyNot_82 rfl (lv_at hl 3 rfl) ?_
                      obtain ⟨hI, hF⟩ := hF
                      refine zm_iald X hH 30 (by decide) rfl (n := 150) rfl hI dX6_whyNot_83 ?_
                      refine lv_iconst (v := 1) hx hb dX6_whyNot_84 (by decide) ?_
                      refine lv_icmp_eq (tgt := 90) hx hb dX6_whyNot_85 (by decide) (fun cd => ?_) (fun cd => ?_)
                      · have hF := hF.1 cd
                        exact wm_whyNot_90 X S M v1 v2 v3 v4 v5 v6 hF _ _ _ rfl rfl (lv_sub hl [0, 1, 2, 3, 4, 5, 6] rfl) hH
                      · have hF := hF.2 cd
                        refine lv_iconst (v := 3) hx hb dX6_whyNot_88 (by decide) ?_
                        exact zm_iret X hH rfl rfl ⟨hF, rfl, rfl⟩ dX6_whyNot_89
                · have hF := hF.2 cd
                  refine lv_iconst (v := 2) hx hb dX6_whyNot_62 (by decide) ?_
                  exact zm_iret X hH rfl rfl ⟨hF, rfl, rfl⟩ dX6_whyNot_63
              · have hF := hF.2 cd
                refine lv_iconst (v := 1) hx hb dX6_whyNot_50 (by decide) ?_
                exact zm_iret X hH rfl rfl ⟨hF, rfl, rfl⟩ dX6_whyNot_51
set_option maxHeartbeats 4000000 in
set_option maxRecDepth 100000 in
/-- noteMove: what the bytecode asks is what its run needs -/
theorem wm_noteMove (l : Launch) (D : va_G) (cI cZ : ClassId) (ad : Nat → Nat) (o : Nat) (hAd : zm_Ad ad o) (S : Nat → Int32) (M : Nat → Nat → Int32) (v1 : Int32) (v2 : Int32) (Q : (Nat → Int32) → (Nat → Nat → Int32) → Prop) (hF : fm_noteMove S M v1 v2 Q) :
    zm_Mv l yX6_noteMove (ws_ yX6_noteMove cX6_noteMove 3 none) 0 D cI cZ ad o [.int v1, .int v2] S M Q := by
  refine zm_ofv rfl hAd (Nat.le_of_ble_eq_true rfl) ?_
  intro p e s m args below meth c H locs ls X hH hl
  have hx := X.1
  have hb := X.2.1
  have hl : lv_has ls 3 [(0, .ref o), (1, .int v1), (2, .int v2)] := hl
  unfold fm_noteMove at hF
  refine lv_aload_n hx hb dX6_noteMove_0 rfl (lv_at hl 0 rfl) ?_
  refine zm_getf X hH 41 (by decide) rfl q1754 dX6_noteMove_1 ?_
  refine lv_aload_n hx hb dX6_noteMove_4 rfl (lv_at hl 0 rfl) ?_
  refine zm_getf X hH 40 (by decide) rfl q1753 dX6_noteMove_5 ?_
  refine lv_iload_n hx hb dX6_noteMove_8 rfl (lv_at hl 1 rfl) ?_
  obtain ⟨hI, hF⟩ := hF
  refine zm_iast X hH 41 (by decide) rfl (n := 2600) rfl hI dX6_noteMove_9 (fun M1 H locs eM1 hH => ?_)
  have hF := hF M1 eM1
  refine lv_aload_n hx hb dX6_noteMove_10 rfl (lv_at hl 0 rfl) ?_
  refine zm_getf X hH 42 (by decide) rfl q1755 dX6_noteMove_11 ?_
  refine lv_aload_n hx hb dX6_noteMove_14 rfl (lv_at hl 0 rfl) ?_
  refine zm_getf X hH 40 (by decide) rfl q1753 dX6_noteMove_15 ?_
  refine lv_aload_n hx hb dX6_noteMove_18 rfl (lv_at hl 0 rfl) ?_
  refine zm_getf X hH 1 (by decide) rfl q1714 dX6_noteMove_19 ?_
  obtain ⟨hI, hF⟩ := hF
  refine zm_iast X hH 42 (by decide) rfl (n := 2600) rfl hI dX6_noteMove_22 (fun M2 H locs eM2 hH => ?_)
  have hF := hF M2 eM2
  refine lv_aload_n hx hb dX6_noteMove_23 rfl (lv_at hl 0 rfl) ?_
  refine zm_getf X hH 43 (by decide) rfl q1756 dX6_noteMove_24 ?_
  refine lv_aload_n hx hb dX6_noteMove_27 rfl (lv_at hl 0 rfl) ?_
  refine zm_getf X hH 40 (by decide) rfl q1753 dX6_noteMove_28 ?_
  refine lv_iload_n hx hb dX6_noteMove_31 rfl (lv_at hl 2 rfl) ?_
  obtain ⟨hI, hF⟩ := hF
  refine zm_iast X hH 43 (by decide) rfl (n := 2600) rfl hI dX6_noteMove_32 (fun M3 H locs eM3 hH => ?_)
  have hF := hF M3 eM3
  refine lv_aload_n hx hb dX6_noteMove_33 rfl (lv_at hl 0 rfl) ?_
  refine lv_dup hx hb dX6_noteMove_34 rfl ?_
  refine zm_getf X hH 40 (by decide) rfl q1753 dX6_noteMove_35 ?_
  refine lv_iconst (v := 1) hx hb dX6_noteMove_38 (by decide) ?_
  refine lv_iadd hx hb dX6_noteMove_39 ?_
  refine zm_puti X hH 40 (by decide) rfl rfl (by decide +kernel) q1753 dX6_noteMove_40 (fun S4 H locs eS4 hH => ?_)
  have hF := hF S4 eS4
  exact zm_vret X hH hF dX6_noteMove_43
