/-! THE MODEL SIDE: the walks, printed by gen_model.py -/
set_option maxRecDepth 100000
set_option maxHeartbeats 4000000 in
set_option maxRecDepth 100000 in
theorem wm_toEarth_30 {p : Program} {l : Launch} {e : Env} {s : State} {m : MethodId} {args : Array Value} {below : List Frame} {meth : Method} {c : Code} {D : va_G} {cI cZ : ClassId} {ad : Nat → Nat} {o : Nat} {Q : (Nat → Int32) → (Nat → Nat → Int32) → Prop} (X : zm_Cx p s m args meth c cX6_toEarth 5 none D cI cZ ad o) :
    ∀ (S : Nat → Int32) (M : Nat → Nat → Int32) (v1 : Int32) (v2 : Int32) (v3 : Int32), fm_toEarth_30 Q S M v1 v2 v3 → ∀ (H : Heap) (locs : List Loc) (ls : Array Slot), lv_has ls 5 [(0, .ref o), (1, .int v1), (2, .int v2), (3, .int v3)] → zm_H D cI cZ ad o S M s H locs → W p l e (zm_R 0) s m args below meth c H locs 0 0 (MQ below (zm_QV Q D cI cZ ad o) args s 0 0 (zm_A ad o)) (F0 m 30 ls []) := by
  have hx := X.1
  have hb := X.2.1
  intro S M v1 v2 v3 hF
  intro H locs ls hl hH
  unfold fm_toEarth_30 at hF
  refine lv_aload_n hx hb dX6_toEarth_30 rfl (lv_at hl 0 rfl) ?_
  refine zm_getf X hH 24 (by decide) rfl q1737 dX6_toEarth_31 ?_
  refine lv_bipush (v := 8) hx hb dX6_toEarth_34 (by decide) ?_
  refine lv_iload_n hx hb dX6_toEarth_36 rfl (lv_at hl 1 rfl) ?_
  refine lv_imul hx hb dX6_toEarth_37 ?_
  refine lv_iconst (v := 2) hx hb dX6_toEarth_38 (by decide) ?_
  refine lv_iload_n hx hb dX6_toEarth_39 rfl (lv_at hl 2 rfl) ?_
  refine lv_imul hx hb dX6_toEarth_40 ?_
  refine lv_iadd hx hb dX6_toEarth_41 ?_
  refine lv_iload_n hx hb dX6_toEarth_42 rfl (lv_at hl 3 rfl) ?_
  refine lv_iadd hx hb dX6_toEarth_43 ?_
  refine lv_iconst (v := (-1)) hx hb dX6_toEarth_44 (by decide) ?_
  obtain ⟨hI, hF⟩ := hF
  refine zm_iast X hH 24 (by decide) rfl (n := 1200) rfl hI dX6_toEarth_45 (fun M1 H locs eM1 hH => ?_)
  have hF := hF M1 eM1
  exact zm_vret X hH hF dX6_toEarth_46
set_option maxHeartbeats 4000000 in
set_option maxRecDepth 100000 in
/-- toEarth: what the bytecode asks is what its run needs -/
theorem wm_toEarth (l : Launch) (D : va_G) (cI cZ : ClassId) (ad : Nat → Nat) (o : Nat) (hAd : zm_Ad ad o) (S : Nat → Int32) (M : Nat → Nat → Int32) (v1 : Int32) (v2 : Int32) (v3 : Int32) (Q : (Nat → Int32) → (Nat → Nat → Int32) → Prop) (hF : fm_toEarth S M v1 v2 v3 Q) :
    zm_Mv l yX6_toEarth (ws_ yX6_toEarth cX6_toEarth 5 none) 0 D cI cZ ad o [.int v1, .int v2, .int v3] S M Q := by
  refine zm_ofv rfl hAd (Nat.le_of_ble_eq_true rfl) ?_
  intro p e s m args below meth c H locs ls X hH hl
  have hx := X.1
  have hb := X.2.1
  have hl : lv_has ls 5 [(0, .ref o), (1, .int v1), (2, .int v2), (3, .int v3)] := hl
  unfold fm_toEarth at hF
  refine lv_aload_n hx hb dX6_toEarth_0 rfl (lv_at hl 0 rfl) ?_
  refine zm_getf X hH 24 (by decide) rfl q1737 dX6_toEarth_1 ?_
  refine lv_bipush (v := 8) hx hb dX6_toEarth_4 (by decide) ?_
  refine lv_iload_n hx hb dX6_toEarth_6 rfl (lv_at hl 1 rfl) ?_
  refine lv_imul hx hb dX6_toEarth_7 ?_
  refine lv_iconst (v := 2) hx hb dX6_toEarth_8 (by decide) ?_
  refine lv_iload_n hx hb dX6_toEarth_9 rfl (lv_at hl 2 rfl) ?_
  refine lv_imul hx hb dX6_toEarth_10 ?_
  refine lv_iadd hx hb dX6_toEarth_11 ?_
  refine lv_iload_n hx hb dX6_toEarth_12 rfl (lv_at hl 3 rfl) ?_
  refine lv_iadd hx hb dX6_toEarth_13 ?_
  obtain ⟨hI, hF⟩ := hF
  refine zm_iald X hH 24 (by decide) rfl (n := 1200) rfl hI dX6_toEarth_14 ?_
  refine lv_topi (fun x1 ex1 => ?_)
  have hF := hF x1 ex1
  refine lv_istore (lv' := [(4, .int x1), (0, .ref o), (1, .int v1), (2, .int v2), (3, .int v3)]) hx hb dX6_toEarth_15 hl (by decide) rfl (fun ls hl => ?_)
  refine lv_iload hx hb dX6_toEarth_17 (lv_at hl 0 rfl) ?_
  refine lv_if_lt (tgt := 30) hx hb dX6_toEarth_19 (by decide) (fun cd => ?_) (fun cd => ?_)
  · have hF := hF.1 cd
    exact wm_toEarth_30 X S M v1 v2 v3 hF _ _ _ (lv_sub hl [1, 2, 3, 4] rfl) hH
  · have hF := hF.2 cd
    refine lv_aload_n hx hb dX6_toEarth_22 rfl (lv_at hl 1 rfl) ?_
    refine zm_getf X hH 33 (by decide) rfl q1746 dX6_toEarth_23 ?_
    refine lv_iload hx hb dX6_toEarth_26 (lv_at hl 0 rfl) ?_
    refine lv_iconst (v := 2) hx hb dX6_toEarth_28 (by decide) ?_
    obtain ⟨hI, hF⟩ := hF
    refine zm_iast X hH 33 (by decide) rfl (n := 150) rfl hI dX6_toEarth_29 (fun M2 H locs eM2 hH => ?_)
    have hF := hF M2 eM2
    exact wm_toEarth_30 X S M2 v1 v2 v3 hF _ _ _ (lv_sub hl [1, 2, 3, 4] rfl) hH
set_option maxHeartbeats 4000000 in
set_option maxRecDepth 100000 in
theorem wm_lays_224 {p : Program} {l : Launch} {e : Env} {s : State} {m : MethodId} {args : Array Value} {below : List Frame} {meth : Method} {c : Code} {D : va_G} {cI cZ : ClassId} {ad : Nat → Nat} {o : Nat} {Q : Int32 → (Nat → Int32) → (Nat → Nat → Int32) → Prop} (X : zm_Cx p s m args meth c cX6_lays 8 (some .int) D cI cZ ad o) :
    ∀ (S : Nat → Int32) (M : Nat → Nat → Int32) (v7 : Int32), fm_lays_224 Q S M v7 → ∀ (H : Heap) (locs : List Loc) (ls : Array Slot), lv_has ls 8 [(0, .ref o), (7, .int v7)] → zm_H D cI cZ ad o S M s H locs → W p l e (zm_R 2) s m args below meth c H locs 0 0 (MQ below (zm_QS Q D cI cZ ad o) args s 0 0 (zm_A ad o)) (F0 m 224 ls []) := by
  have hx := X.1
  have hb := X.2.1
  intro S M v7 hF
  intro H locs ls hl hH
  unfold fm_lays_224 at hF
  refine lv_aload_n hx hb dX6_lays_224 rfl (lv_at hl 0 rfl) ?_
  refine lv_dup hx hb dX6_lays_225 rfl ?_
  refine zm_getf X hH 44 (by decide) rfl q1757 dX6_lays_226 ?_
  refine lv_iload hx hb dX6_lays_229 (lv_at hl 1 rfl) ?_
  refine lv_iadd hx hb dX6_lays_231 ?_
  refine zm_puti X hH 44 (by decide) rfl rfl (by decide +kernel) q1757 dX6_lays_232 (fun S1 H locs eS1 hH => ?_)
  have hF := hF S1 eS1
  refine lv_iload hx hb dX6_lays_235 (lv_at hl 1 rfl) ?_
  exact zm_iret X hH rfl rfl hF dX6_lays_237
set_option maxHeartbeats 4000000 in
set_option maxRecDepth 100000 in
theorem wm_lays_178 {p : Program} {l : Launch} {e : Env} {s : State} {m : MethodId} {args : Array Value} {below : List Frame} {meth : Method} {c : Code} {D : va_G} {cI cZ : ClassId} {ad : Nat → Nat} {o : Nat} {Q : Int32 → (Nat → Int32) → (Nat → Nat → Int32) → Prop} (X : zm_Cx p s m args meth c cX6_lays 8 (some .int) D cI cZ ad o) :
    ∀ (n : Nat) (S : Nat → Int32) (M : Nat → Nat → Int32) (v1 : Int32) (v5 : Int32) (v7 : Int32), fm_lays_178 Q n S M v1 v5 v7 → ∀ (H : Heap) (locs : List Loc) (ls : Array Slot), lv_has ls 8 [(0, .ref o), (1, .int v1), (5, .int v5), (7, .int v7)] → zm_H D cI cZ ad o S M s H locs → W p l e (zm_R 2) s m args below meth c H locs 0 0 (MQ below (zm_QS Q D cI cZ ad o) args s 0 0 (zm_A ad o)) (F0 m 178 ls []) := by
  have hx := X.1
  have hb := X.2.1
  intro n
  induction n with
  | zero =>
    intro S M v1 v5 v7 hF
    exact False.elim hF
  | succ n ih =>
    intro S M v1 v5 v7 hF
    intro H locs ls hl hH
    unfold fm_lays_178 at hF
    refine lv_aload_n hx hb dX6_lays_178 rfl (lv_at hl 0 rfl) ?_
    refine zm_getf X hH 10 (by decide) rfl q1723 dX6_lays_179 ?_
    refine lv_iload_n hx hb dX6_lays_182 rfl (lv_at hl 1 rfl) ?_
    obtain ⟨hI, hF⟩ := hF
    refine zm_iald X hH 10 (by decide) rfl (n := 150) rfl hI dX6_lays_183 ?_
    refine lv_iconst (v := 5) hx hb dX6_lays_184 (by decide) ?_
    refine lv_icmp_eq (tgt := 224) hx hb dX6_lays_185 (by decide) (fun cd => ?_) (fun cd => ?_)
    · have hF := hF.1 cd
      exact wm_lays_224 X S M v7 hF _ _ _ (lv_sub hl [0, 3] rfl) hH
    · have hF := hF.2 cd
      refine lv_aload_n hx hb dX6_lays_188 rfl (lv_at hl 0 rfl) ?_
      refine zm_getf X hH 13 (by decide) rfl q1726 dX6_lays_189 ?_
      refine lv_iload_n hx hb dX6_lays_192 rfl (lv_at hl 1 rfl) ?_
      obtain ⟨hI, hF⟩ := hF
      refine zm_iald X hH 13 (by decide) rfl (n := 150) rfl hI dX6_lays_193 ?_
      refine lv_iload hx hb dX6_lays_194 (lv_at hl 2 rfl) ?_
      refine lv_icmp_ge (tgt := 224) hx hb dX6_lays_196 (by decide) (fun cd => ?_) (fun cd => ?_)
      · have hF := hF.1 cd
        exact wm_lays_224 X S M v7 hF _ _ _ (lv_sub hl [0, 3] rfl) hH
      · have hF := hF.2 cd
        refine lv_aload_n hx hb dX6_lays_199 rfl (lv_at hl 0 rfl) ?_
        refine zm_getf X hH 13 (by decide) rfl q1726 dX6_lays_200 ?_
        refine lv_iload_n hx hb dX6_lays_203 rfl (lv_at hl 1 rfl) ?_
        refine lv_dup2_11 hx hb dX6_lays_204 rfl rfl ?_
        obtain ⟨hI, hF⟩ := hF
        refine zm_iald X hH 13 (by decide) rfl (n := 150) rfl hI dX6_lays_205 ?_
        refine lv_sipush (v := 365) hx hb dX6_lays_206 (by decide) ?_
        refine lv_iadd hx hb dX6_lays_209 ?_
        obtain ⟨hI, hF⟩ := hF
        refine zm_iast X hH 13 (by decide) rfl (n := 150) rfl hI dX6_lays_210 (fun M1 H locs eM1 hH => ?_)
        have hF := hF M1 eM1
        refine lv_iload hx hb dX6_lays_211 (lv_at hl 3 rfl) ?_
        refine lv_aload_n hx hb dX6_lays_213 rfl (lv_at hl 0 rfl) ?_
        refine lv_iload_n hx hb dX6_lays_214 rfl (lv_at hl 1 rfl) ?_
        refine zm_calli (As := [.int v1]) (rest := [.int v7]) X hH (wm_yearly l D cI cZ ad o X.2.2.2.2.2.2.2.2 S M1 v1 _ hF) (cwV 1 X.2.2.2.2.1 (lw_V q1957 q1959 qs49 q95 q1960) rfl rfl rfl (by decide +kernel) ⟨Nat.le_of_ble_eq_true rfl, Nat.le_of_ble_eq_true rfl⟩) rfl hl.1 rfl (Nat.le_of_ble_eq_true rfl) dX6_lays_215 (Nat.le_refl 0) (Nat.le_refl 0) (fun r4 S2 M3 H locs hF hH => ?_)
        obtain ⟨hF, e9, e8⟩ := hF; subst e9; subst e8
        refine lv_iadd hx hb dX6_lays_218 ?_
        refine lv_topi (fun x5 ex5 => ?_)
        have hF := hF x5 ex5
        refine lv_istore (lv' := [(7, .int x5), (0, .ref o), (1, .int v1), (5, .int v5)]) hx hb dX6_lays_219 hl (by decide) rfl (fun ls hl => ?_)
        refine lv_goto (tgt := 178) hx hb dX6_lays_221 (by decide) ?_
        exact ih S M1 v1 v5 x5 hF _ _ _ (lv_sub hl [1, 2, 3, 0] rfl) hH
set_option maxHeartbeats 4000000 in
set_option maxRecDepth 100000 in
theorem wm_lays_175 {p : Program} {l : Launch} {e : Env} {s : State} {m : MethodId} {args : Array Value} {below : List Frame} {meth : Method} {c : Code} {D : va_G} {cI cZ : ClassId} {ad : Nat → Nat} {o : Nat} {Q : Int32 → (Nat → Int32) → (Nat → Nat → Int32) → Prop} (X : zm_Cx p s m args meth c cX6_lays 8 (some .int) D cI cZ ad o) :
    ∀ (S : Nat → Int32) (M : Nat → Nat → Int32) (v1 : Int32) (v5 : Int32) (t0 : Int32) (t1 : Int32), fm_lays_175 Q S M v1 v5 t0 t1 → ∀ (H : Heap) (locs : List Loc) (ls : Array Slot), lv_has ls 8 [(0, .ref o), (1, .int v1), (5, .int v5)] → zm_H D cI cZ ad o S M s H locs → W p l e (zm_R 2) s m args below meth c H locs 0 0 (MQ below (zm_QS Q D cI cZ ad o) args s 0 0 (zm_A ad o)) (F0 m 175 ls [.int t1, .int t0]) := by
  have hx := X.1
  have hb := X.2.1
  intro S M v1 v5 t0 t1 hF
  intro H locs ls hl hH
  unfold fm_lays_175 at hF
  refine lv_iadd hx hb dX6_lays_175 ?_
  refine lv_topi (fun x1 ex1 => ?_)
  have hF := hF x1 ex1
  refine lv_istore (lv' := [(7, .int x1), (0, .ref o), (1, .int v1), (5, .int v5)]) hx hb dX6_lays_176 hl (by decide) rfl (fun ls hl => ?_)
  obtain ⟨n9, hF⟩ := hF
  exact wm_lays_178 X n9 S M v1 v5 x1 hF _ _ _ (lv_sub hl [1, 2, 3, 0] rfl) hH
set_option maxHeartbeats 4000000 in
set_option maxRecDepth 100000 in
theorem wm_lays_163 {p : Program} {l : Launch} {e : Env} {s : State} {m : MethodId} {args : Array Value} {below : List Frame} {meth : Method} {c : Code} {D : va_G} {cI cZ : ClassId} {ad : Nat → Nat} {o : Nat} {Q : Int32 → (Nat → Int32) → (Nat → Nat → Int32) → Prop} (X : zm_Cx p s m args meth c cX6_lays 8 (some .int) D cI cZ ad o) :
    ∀ (S : Nat → Int32) (M : Nat → Nat → Int32) (v1 : Int32) (v5 : Int32) (v6 : Int32) (t0 : Int32), fm_lays_163 Q S M v1 v5 v6 t0 → ∀ (H : Heap) (locs : List Loc) (ls : Array Slot), lv_has ls 8 [(0, .ref o), (1, .int v1), (5, .int v5), (6, .int v6)] → zm_H D cI cZ ad o S M s H locs → W p l e (zm_R 2) s m args below meth c H locs 0 0 (MQ below (zm_QS Q D cI cZ ad o) args s 0 0 (zm_A ad o)) (F0 m 163 ls [.int t0]) := by
  have hx := X.1
  have hb := X.2.1
  intro S M v1 v5 v6 t0 hF
  intro H locs ls hl hH
  unfold fm_lays_163 at hF
  refine lv_iload hx hb dX6_lays_163 (lv_at hl 3 rfl) ?_
  refine lv_iconst (v := 1) hx hb dX6_lays_165 (by decide) ?_
  refine lv_icmp_ne (tgt := 174) hx hb dX6_lays_166 (by decide) (fun cd => ?_) (fun cd => ?_)
  · have hF := hF.1 cd
    refine lv_iconst (v := 0) hx hb dX6_lays_174 (by decide) ?_
    exact wm_lays_175 X S M v1 v5 t0 0 hF _ _ _ (lv_sub hl [0, 1, 2] rfl) hH
  · have hF := hF.2 cd
    refine lv_bipush (v := 20) hx hb dX6_lays_169 (by decide) ?_
    refine lv_goto (tgt := 175) hx hb dX6_lays_171 (by decide) ?_
    exact wm_lays_175 X S M v1 v5 t0 20 hF _ _ _ (lv_sub hl [0, 1, 2] rfl) hH
set_option maxHeartbeats 4000000 in
set_option maxRecDepth 100000 in
theorem wm_lays_89 {p : Program} {l : Launch} {e : Env} {s : State} {m : MethodId} {args : Array Value} {below : List Frame} {meth : Method} {c : Code} {D : va_G} {cI cZ : ClassId} {ad : Nat → Nat} {o : Nat} {Q : Int32 → (Nat → Int32) → (Nat → Nat → Int32) → Prop} (X : zm_Cx p s m args meth c cX6_lays 8 (some .int) D cI cZ ad o) :
    ∀ (S : Nat → Int32) (M : Nat → Nat → Int32) (v1 : Int32) (v2 : Int32) (v3 : Int32) (v4 : Int32) (v5 : Int32) (v6 : Int32), fm_lays_89 Q S M v1 v2 v3 v4 v5 v6 → ∀ (H : Heap) (locs : List Loc) (ls : Array Slot), lv_has ls 8 [(0, .ref o), (1, .int v1), (2, .int v2), (3, .int v3), (4, .int v4), (5, .int v5), (6, .int v6)] → zm_H D cI cZ ad o S M s H locs → W p l e (zm_R 2) s m args below meth c H locs 0 0 (MQ below (zm_QS Q D cI cZ ad o) args s 0 0 (zm_A ad o)) (F0 m 89 ls []) := by
  have hx := X.1
  have hb := X.2.1
  intro S M v1 v2 v3 v4 v5 v6 hF
  intro H locs ls hl hH
  unfold fm_lays_89 at hF
  refine lv_aload_n hx hb dX6_lays_89 rfl (lv_at hl 0 rfl) ?_
  refine zm_getf X hH 30 (by decide) rfl q1743 dX6_lays_90 ?_
  refine lv_iload_n hx hb dX6_lays_93 rfl (lv_at hl 3 rfl) ?_
  refine lv_iconst (v := 2) hx hb dX6_lays_94 (by decide) ?_
  obtain ⟨hI, hF⟩ := hF
  refine zm_iast X hH 30 (by decide) rfl (n := 150) rfl hI dX6_lays_95 (fun M1 H locs eM1 hH => ?_)
  have hF := hF M1 eM1
  refine lv_aload_n hx hb dX6_lays_96 rfl (lv_at hl 0 rfl) ?_
  refine zm_getf X hH 31 (by decide) rfl q1744 dX6_lays_97 ?_
  refine lv_iload_n hx hb dX6_lays_100 rfl (lv_at hl 3 rfl) ?_
  refine lv_iload_n hx hb dX6_lays_101 rfl (lv_at hl 1 rfl) ?_
  obtain ⟨hI, hF⟩ := hF
  refine zm_iast X hH 31 (by decide) rfl (n := 150) rfl hI dX6_lays_102 (fun M2 H locs eM2 hH => ?_)
  have hF := hF M2 eM2
  refine lv_aload_n hx hb dX6_lays_103 rfl (lv_at hl 0 rfl) ?_
  refine zm_getf X hH 32 (by decide) rfl q1745 dX6_lays_104 ?_
  refine lv_iload_n hx hb dX6_lays_107 rfl (lv_at hl 3 rfl) ?_
  refine lv_iload_n hx hb dX6_lays_108 rfl (lv_at hl 2 rfl) ?_
  obtain ⟨hI, hF⟩ := hF
  refine zm_iast X hH 32 (by decide) rfl (n := 150) rfl hI dX6_lays_109 (fun M3 H locs eM3 hH => ?_)
  have hF := hF M3 eM3
  refine lv_aload_n hx hb dX6_lays_110 rfl (lv_at hl 0 rfl) ?_
  refine zm_getf X hH 33 (by decide) rfl q1746 dX6_lays_111 ?_
  refine lv_iload_n hx hb dX6_lays_114 rfl (lv_at hl 3 rfl) ?_
  refine lv_iload hx hb dX6_lays_115 (lv_at hl 6 rfl) ?_
  obtain ⟨hI, hF⟩ := hF
  refine zm_iast X hH 33 (by decide) rfl (n := 150) rfl hI dX6_lays_117 (fun M4 H locs eM4 hH => ?_)
  have hF := hF M4 eM4
  refine lv_aload_n hx hb dX6_lays_118 rfl (lv_at hl 0 rfl) ?_
  refine zm_getf X hH 34 (by decide) rfl q1747 dX6_lays_119 ?_
  refine lv_iload_n hx hb dX6_lays_122 rfl (lv_at hl 3 rfl) ?_
  refine lv_iload hx hb dX6_lays_123 (lv_at hl 5 rfl) ?_
  obtain ⟨hI, hF⟩ := hF
  refine zm_iast X hH 34 (by decide) rfl (n := 150) rfl hI dX6_lays_125 (fun M5 H locs eM5 hH => ?_)
  have hF := hF M5 eM5
  refine lv_aload_n hx hb dX6_lays_126 rfl (lv_at hl 0 rfl) ?_
  refine zm_getf X hH 35 (by decide) rfl q1748 dX6_lays_127 ?_
  refine lv_iload_n hx hb dX6_lays_130 rfl (lv_at hl 3 rfl) ?_
  refine lv_iload hx hb dX6_lays_131 (lv_at hl 4 rfl) ?_
  obtain ⟨hI, hF⟩ := hF
  refine zm_iast X hH 35 (by decide) rfl (n := 150) rfl hI dX6_lays_133 (fun M6 H locs eM6 hH => ?_)
  have hF := hF M6 eM6
  refine lv_aload_n hx hb dX6_lays_134 rfl (lv_at hl 0 rfl) ?_
  refine lv_iload_n hx hb dX6_lays_135 rfl (lv_at hl 3 rfl) ?_
  refine lv_iload_n hx hb dX6_lays_136 rfl (lv_at hl 1 rfl) ?_
  refine zm_callv (As := [.int v3, .int v1]) (rest := []) X hH (wm_noteMove l D cI cZ ad o X.2.2.2.2.2.2.2.2 S M6 v3 v1 _ hF) (cwV 2 X.2.2.2.2.1 (lw_V q2047 q2049 qs71 q95 q2050) rfl rfl rfl (by decide +kernel) ⟨Nat.le_of_ble_eq_true rfl, Nat.le_of_ble_eq_true rfl⟩) rfl hl.1 rfl (Nat.le_of_ble_eq_true rfl) dX6_lays_137 (Nat.le_refl 0) (Nat.le_refl 0) (fun S7 M8 H locs hF hH => ?_)
  refine lv_iload hx hb dX6_lays_140 (lv_at hl 4 rfl) ?_
  refine lv_if_ne (tgt := 150) hx hb dX6_lays_142 (by decide) (fun cd => ?_) (fun cd => ?_)
  · have hF := hF.1 cd
    refine lv_iload hx hb dX6_lays_150 (lv_at hl 4 rfl) ?_
    refine lv_iconst (v := 1) hx hb dX6_lays_152 (by decide) ?_
    refine lv_icmp_ne (tgt := 161) hx hb dX6_lays_153 (by decide) (fun cd => ?_) (fun cd => ?_)
    · have hF := hF.1 cd
      refine lv_bipush (v := 30) hx hb dX6_lays_161 (by decide) ?_
      exact wm_lays_163 X S7 M8 v1 v5 v6 30 hF _ _ _ (lv_sub hl [0, 1, 5, 6] rfl) hH
    · have hF := hF.2 cd
      refine lv_bipush (v := 25) hx hb dX6_lays_156 (by decide) ?_
      refine lv_goto (tgt := 163) hx hb dX6_lays_158 (by decide) ?_
      exact wm_lays_163 X S7 M8 v1 v5 v6 25 hF _ _ _ (lv_sub hl [0, 1, 5, 6] rfl) hH
  · have hF := hF.2 cd
    refine lv_bipush (v := 60) hx hb dX6_lays_145 (by decide) ?_
    refine lv_goto (tgt := 163) hx hb dX6_lays_147 (by decide) ?_
    exact wm_lays_163 X S7 M8 v1 v5 v6 60 hF _ _ _ (lv_sub hl [0, 1, 5, 6] rfl) hH
set_option maxHeartbeats 4000000 in
set_option maxRecDepth 100000 in
theorem wm_lays_51 {p : Program} {l : Launch} {e : Env} {s : State} {m : MethodId} {args : Array Value} {below : List Frame} {meth : Method} {c : Code} {D : va_G} {cI cZ : ClassId} {ad : Nat → Nat} {o : Nat} {Q : Int32 → (Nat → Int32) → (Nat → Nat → Int32) → Prop} (X : zm_Cx p s m args meth c cX6_lays 8 (some .int) D cI cZ ad o) :
    ∀ (n : Nat) (S : Nat → Int32) (M : Nat → Nat → Int32) (v1 : Int32) (v2 : Int32) (v3 : Int32) (v4 : Int32) (v5 : Int32) (v6 : Int32) (v7 : Int32), fm_lays_51 Q n S M v1 v2 v3 v4 v5 v6 v7 → ∀ (H : Heap) (locs : List Loc) (ls : Array Slot), lv_has ls 8 [(0, .ref o), (1, .int v1), (2, .int v2), (3, .int v3), (4, .int v4), (5, .int v5), (6, .int v6), (7, .int v7)] → zm_H D cI cZ ad o S M s H locs → W p l e (zm_R 2) s m args below meth c H locs 0 0 (MQ below (zm_QS Q D cI cZ ad o) args s 0 0 (zm_A ad o)) (F0 m 51 ls []) := by
  have hx := X.1
  have hb := X.2.1
  intro n
  induction n with
  | zero =>
    intro S M v1 v2 v3 v4 v5 v6 v7 hF
    exact False.elim hF
  | succ n ih =>
    intro S M v1 v2 v3 v4 v5 v6 v7 hF
    intro H locs ls hl hH
    unfold fm_lays_51 at hF
    refine lv_iload hx hb dX6_lays_51 (lv_at hl 7 rfl) ?_
    refine lv_iload hx hb dX6_lays_53 (lv_at hl 6 rfl) ?_
    refine lv_icmp_gt (tgt := 72) hx hb dX6_lays_55 (by decide) (fun cd => ?_) (fun cd => ?_)
    · have hF := hF.1 cd
      refine lv_aload_n hx hb dX6_lays_72 rfl (lv_at hl 0 rfl) ?_
      refine zm_getf X hH 24 (by decide) rfl q1737 dX6_lays_73 ?_
      refine lv_bipush (v := 8) hx hb dX6_lays_76 (by decide) ?_
      refine lv_iload_n hx hb dX6_lays_78 rfl (lv_at hl 1 rfl) ?_
      refine lv_imul hx hb dX6_lays_79 ?_
      refine lv_iconst (v := 2) hx hb dX6_lays_80 (by decide) ?_
      refine lv_iload_n hx hb dX6_lays_81 rfl (lv_at hl 2 rfl) ?_
      refine lv_imul hx hb dX6_lays_82 ?_
      refine lv_iadd hx hb dX6_lays_83 ?_
      refine lv_iload hx hb dX6_lays_84 (lv_at hl 6 rfl) ?_
      refine lv_iadd hx hb dX6_lays_86 ?_
      refine lv_iload_n hx hb dX6_lays_87 rfl (lv_at hl 3 rfl) ?_
      obtain ⟨hI, hF⟩ := hF
      refine zm_iast X hH 24 (by decide) rfl (n := 1200) rfl hI dX6_lays_88 (fun M1 H locs eM1 hH => ?_)
      have hF := hF M1 eM1
      exact wm_lays_89 X S M1 v1 v2 v3 v4 v5 v6 hF _ _ _ (lv_sub hl [0, 1, 2, 3, 4, 5, 6] rfl) hH
    · have hF := hF.2 cd
      refine lv_aload_n hx hb dX6_lays_58 rfl (lv_at hl 0 rfl) ?_
      refine lv_iload_n hx hb dX6_lays_59 rfl (lv_at hl 1 rfl) ?_
      refine lv_iload_n hx hb dX6_lays_60 rfl (lv_at hl 2 rfl) ?_
      refine lv_iload hx hb dX6_lays_61 (lv_at hl 7 rfl) ?_
      refine zm_callv (As := [.int v1, .int v2, .int v7]) (rest := []) X hH (wm_toEarth l D cI cZ ad o X.2.2.2.2.2.2.2.2 S M v1 v2 v7 _ hF) (cwV 3 X.2.2.2.2.1 (lw_V q2043 q2045 qs70 q95 q2046) rfl rfl rfl (by decide +kernel) ⟨Nat.le_of_ble_eq_true rfl, Nat.le_of_ble_eq_true rfl⟩) rfl hl.1 rfl (Nat.le_of_ble_eq_true rfl) dX6_lays_63 (Nat.le_refl 0) (Nat.le_refl 0) (fun S2 M3 H locs hF hH => ?_)
      obtain ⟨x5, ex5⟩ : ∃ z : Int32, z = v7 + 1 := ⟨_, rfl⟩
      have hF := hF x5 ex5
      refine lv_iinc (v := x5) (lv' := [(7, .int x5), (0, .ref o), (1, .int v1), (2, .int v2), (3, .int v3), (4, .int v4), (5, .int v5), (6, .int v6)]) hx hb dX6_lays_66 hl (k := 7) rfl (by rw [ex5]; rfl) (by decide) rfl (fun ls hl => ?_)
      refine lv_goto (tgt := 51) hx hb dX6_lays_69 (by decide) ?_
      exact ih S2 M3 v1 v2 v3 v4 v5 v6 x5 hF _ _ _ (lv_sub hl [1, 2, 3, 4, 5, 6, 7, 0] rfl) hH
set_option maxHeartbeats 4000000 in
set_option maxRecDepth 100000 in
/-- lays: what the bytecode asks is what its run needs -/
theorem wm_lays (l : Launch) (D : va_G) (cI cZ : ClassId) (ad : Nat → Nat) (o : Nat) (hAd : zm_Ad ad o) (S : Nat → Int32) (M : Nat → Nat → Int32) (v1 : Int32) (v2 : Int32) (v3 : Int32) (v4 : Int32) (v5 : Int32) (Q : Int32 → (Nat → Int32) → (Nat → Nat → Int32) → Prop) (hF : fm_lays S M v1 v2 v3 v4 v5 Q) :
    zm_Mi l yX6_lays (ws_ yX6_lays cX6_lays 8 (some .int)) 2 D cI cZ ad o [.int v1, .int v2, .int v3, .int v4, .int v5] S M Q := by
  refine zm_ofi rfl hAd (Nat.le_of_ble_eq_true rfl) ?_
  intro p e s m args below meth c H locs ls X hH hl
  have hx := X.1
  have hb := X.2.1
  have hl : lv_has ls 8 [(0, .ref o), (1, .int v1), (2, .int v2), (3, .int v3), (4, .int v4), (5, .int v5)] := hl
  unfold fm_lays at hF
  refine lv_aload_n hx hb dX6_lays_0 rfl (lv_at hl 0 rfl) ?_
  refine lv_iload_n hx hb dX6_lays_1 rfl (lv_at hl 1 rfl) ?_
  refine lv_iload_n hx hb dX6_lays_2 rfl (lv_at hl 2 rfl) ?_
  refine zm_calli (As := [.int v1, .int v2]) (rest := []) X hH (wm_roomIn l D cI cZ ad o X.2.2.2.2.2.2.2.2 S M v1 v2 _ hF) (cwV 2 X.2.2.2.2.1 (lw_V q2023 q2025 qs65 q95 q2026) rfl rfl rfl (by decide +kernel) ⟨Nat.le_of_ble_eq_true rfl, Nat.le_of_ble_eq_true rfl⟩) rfl hl.1 rfl (Nat.le_of_ble_eq_true rfl) dX6_lays_3 (Nat.le_refl 0) (Nat.le_refl 0) (fun r3 S1 M2 H locs hF hH => ?_)
  obtain ⟨hF, e9, e8⟩ := hF; subst e9; subst e8
  refine lv_istore (lv' := [(6, .int r3), (0, .ref o), (1, .int v1), (2, .int v2), (3, .int v3), (4, .int v4), (5, .int v5)]) hx hb dX6_lays_6 hl (by decide) rfl (fun ls hl => ?_)
  refine lv_aload_n hx hb dX6_lays_8 rfl (lv_at hl 1 rfl) ?_
  refine zm_getf X hH 10 (by decide) rfl q1723 dX6_lays_9 ?_
  refine lv_iload_n hx hb dX6_lays_12 rfl (lv_at hl 2 rfl) ?_
  obtain ⟨hI, hF⟩ := hF
  refine zm_iald X hH 10 (by decide) rfl (n := 150) rfl hI dX6_lays_13 ?_
  refine lv_iconst (v := 5) hx hb dX6_lays_14 (by decide) ?_
  refine lv_icmp_ne (tgt := 48) hx hb dX6_lays_15 (by decide) (fun cd => ?_) (fun cd => ?_)
  · have hF := hF.1 cd
    refine lv_iconst (v := 0) hx hb dX6_lays_48 (by decide) ?_
    refine lv_istore (lv' := [(7, .int 0), (6, .int r3), (0, .ref o), (1, .int v1), (2, .int v2), (3, .int v3), (4, .int v4), (5, .int v5)]) hx hb dX6_lays_49 hl (by decide) rfl (fun ls hl => ?_)
    obtain ⟨n9, hF⟩ := hF
    exact wm_lays_51 X n9 S M v1 v2 v3 v4 v5 r3 0 hF _ _ _ (lv_sub hl [2, 3, 4, 5, 6, 7, 1, 0] rfl) hH
  · have hF := hF.2 cd
    refine lv_aload_n hx hb dX6_lays_18 rfl (lv_at hl 1 rfl) ?_
    refine zm_getf X hH 25 (by decide) rfl q1738 dX6_lays_19 ?_
    refine lv_bipush (v := 40) hx hb dX6_lays_22 (by decide) ?_
    refine lv_iload_n hx hb dX6_lays_24 rfl (lv_at hl 2 rfl) ?_
    refine lv_imul hx hb dX6_lays_25 ?_
    refine lv_aload_n hx hb dX6_lays_26 rfl (lv_at hl 1 rfl) ?_
    refine zm_getf X hH 26 (by decide) rfl q1739 dX6_lays_27 ?_
    refine lv_iload_n hx hb dX6_lays_30 rfl (lv_at hl 2 rfl) ?_
    obtain ⟨hI, hF⟩ := hF
    refine zm_iald X hH 26 (by decide) rfl (n := 150) rfl hI dX6_lays_31 ?_
    refine lv_iadd hx hb dX6_lays_32 ?_
    refine lv_iload_n hx hb dX6_lays_33 rfl (lv_at hl 4 rfl) ?_
    obtain ⟨hI, hF⟩ := hF
    refine zm_iast X hH 25 (by decide) rfl (n := 6000) rfl hI dX6_lays_34 (fun M4 H locs eM4 hH => ?_)
    have hF := hF M4 eM4
    refine lv_aload_n hx hb dX6_lays_35 rfl (lv_at hl 1 rfl) ?_
    refine zm_getf X hH 26 (by decide) rfl q1739 dX6_lays_36 ?_
    refine lv_iload_n hx hb dX6_lays_39 rfl (lv_at hl 2 rfl) ?_
    refine lv_dup2_11 hx hb dX6_lays_40 rfl rfl ?_
    obtain ⟨hI, hF⟩ := hF
    refine zm_iald X hH 26 (by decide) rfl (n := 150) rfl hI dX6_lays_41 ?_
    refine lv_iconst (v := 1) hx hb dX6_lays_42 (by decide) ?_
    refine lv_iadd hx hb dX6_lays_43 ?_
    obtain ⟨hI, hF⟩ := hF
    refine zm_iast X hH 26 (by decide) rfl (n := 150) rfl hI dX6_lays_44 (fun M5 H locs eM5 hH => ?_)
    have hF := hF M5 eM5
    refine lv_goto (tgt := 89) hx hb dX6_lays_45 (by decide) ?_
    exact wm_lays_89 X S M5 v1 v2 v3 v4 v5 r3 hF _ _ _ (lv_sub hl [1, 2, 3, 4, 5, 6, 0] rfl) hH
set_option maxHeartbeats 4000000 in
set_option maxRecDepth 100000 in
/-- actBury: what the bytecode asks is what its run needs -/
theorem wm_actBury (l : Launch) (D : va_G) (cI cZ : ClassId) (ad : Nat → Nat) (o : Nat) (hAd : zm_Ad ad o) (S : Nat → Int32) (M : Nat → Nat → Int32) (v1 : Int32) (v2 : Int32) (v3 : Int32) (v4 : Int32) (Q : Int32 → (Nat → Int32) → (Nat → Nat → Int32) → Prop) (hF : fm_actBury S M v1 v2 v3 v4 Q) :
    zm_Mi l yX6_actBury (ws_ yX6_actBury cX6_actBury 6 (some .int)) 3 D cI cZ ad o [.int v1, .int v2, .int v3, .int v4] S M Q := by
  refine zm_ofi rfl hAd (Nat.le_of_ble_eq_true rfl) ?_
  intro p e s m args below meth c H locs ls X hH hl
  have hx := X.1
  have hb := X.2.1
  have hl : lv_has ls 6 [(0, .ref o), (1, .int v1), (2, .int v2), (3, .int v3), (4, .int v4)] := hl
  unfold fm_actBury at hF
  refine lv_aload_n hx hb dX6_actBury_0 rfl (lv_at hl 0 rfl) ?_
  refine lv_iload_n hx hb dX6_actBury_1 rfl (lv_at hl 1 rfl) ?_
  refine lv_iload_n hx hb dX6_actBury_2 rfl (lv_at hl 2 rfl) ?_
  refine lv_iload_n hx hb dX6_actBury_3 rfl (lv_at hl 3 rfl) ?_
  refine lv_iload hx hb dX6_actBury_4 (lv_at hl 4 rfl) ?_
  refine lv_iconst (v := 0) hx hb dX6_actBury_6 (by decide) ?_
  refine lv_iconst (v := 0) hx hb dX6_actBury_7 (by decide) ?_
  refine zm_calli (As := [.int v1, .int v2, .int v3, .int v4, .int 0, .int 0]) (rest := []) X hH (wm_whyNot l D cI cZ ad o X.2.2.2.2.2.2.2.2 S M v1 v2 v3 v4 0 0 _ hF) (cwV 6 X.2.2.2.2.1 (lw_V q2011 q2013 qs62 q95 q2014) rfl rfl rfl (by decide +kernel) ⟨Nat.le_of_ble_eq_true rfl, Nat.le_of_ble_eq_true rfl⟩) rfl hl.1 rfl (Nat.le_of_ble_eq_true rfl) dX6_actBury_8 (Nat.le_refl 0) (Nat.le_refl 0) (fun r3 S1 M2 H locs hF hH => ?_)
  obtain ⟨hF, e9, e8⟩ := hF; subst e9; subst e8
  refine lv_istore (lv' := [(5, .int r3), (0, .ref o), (1, .int v1), (2, .int v2), (3, .int v3), (4, .int v4)]) hx hb dX6_actBury_11 hl (by decide) rfl (fun ls hl => ?_)
  refine lv_iload hx hb dX6_actBury_13 (lv_at hl 0 rfl) ?_
  refine lv_if_le (tgt := 24) hx hb dX6_actBury_15 (by decide) (fun cd => ?_) (fun cd => ?_)
  · have hF := hF.1 cd
    refine lv_aload_n hx hb dX6_actBury_24 rfl (lv_at hl 1 rfl) ?_
    refine lv_iload_n hx hb dX6_actBury_25 rfl (lv_at hl 2 rfl) ?_
    refine lv_iload_n hx hb dX6_actBury_26 rfl (lv_at hl 3 rfl) ?_
    refine lv_iload_n hx hb dX6_actBury_27 rfl (lv_at hl 4 rfl) ?_
    refine lv_iload hx hb dX6_actBury_28 (lv_at hl 5 rfl) ?_
    refine lv_aload_n hx hb dX6_actBury_30 rfl (lv_at hl 1 rfl) ?_
    refine zm_getf X hH 1 (by decide) rfl q1714 dX6_actBury_31 ?_
    refine lv_sipush (v := 365) hx hb dX6_actBury_34 (by decide) ?_
    refine lv_aload_n hx hb dX6_actBury_37 rfl (lv_at hl 1 rfl) ?_
    refine lv_iload hx hb dX6_actBury_38 (lv_at hl 5 rfl) ?_
    refine lv_iload_n hx hb dX6_actBury_40 rfl (lv_at hl 2 rfl) ?_
    refine zm_calli (As := [.int v4, .int v1]) (rest := [.int 365, .int (S 1), .int v4, .int v3, .int v2, .int v1, .ref o]) X hH (wm_yearsOf l D cI cZ ad o X.2.2.2.2.2.2.2.2 S M v4 v1 _ hF) (cwV 2 X.2.2.2.2.1 (lw_V q2035 q2037 qs68 q95 q2038) rfl rfl rfl (by decide +kernel) ⟨Nat.le_of_ble_eq_true rfl, Nat.le_of_ble_eq_true rfl⟩) rfl hl.1 rfl (Nat.le_of_ble_eq_true rfl) dX6_actBury_41 (Nat.le_refl 0) (Nat.le_refl 0) (fun r6 S4 M5 H locs hF hH => ?_)
    obtain ⟨hF, e9, e8⟩ := hF; subst e9; subst e8
    refine lv_imul hx hb dX6_actBury_44 ?_
    refine lv_iadd hx hb dX6_actBury_45 ?_
    refine zm_calli (As := [.int v1, .int v2, .int v3, .int v4, .int ((S 1) + (365 * r6))]) (rest := []) X hH (wm_lays l D cI cZ ad o X.2.2.2.2.2.2.2.2 S M v1 v2 v3 v4 ((S 1) + (365 * r6)) _ hF) (cwV 5 X.2.2.2.2.1 (lw_V q2039 q2041 qs69 q95 q2042) rfl rfl rfl (by decide +kernel) ⟨Nat.le_of_ble_eq_true rfl, Nat.le_of_ble_eq_true rfl⟩) rfl hl.1 rfl (Nat.le_of_ble_eq_true rfl) dX6_actBury_46 (Nat.le_refl 0) (Nat.le_refl 0) (fun r9 S7 M8 H locs hF hH => ?_)
    exact zm_iret X hH rfl rfl hF dX6_actBury_49
  · have hF := hF.2 cd
    refine lv_iload hx hb dX6_actBury_18 (lv_at hl 0 rfl) ?_
    refine lv_ineg hx hb dX6_actBury_20 ?_
    refine lv_goto (tgt := 49) hx hb dX6_actBury_21 (by decide) ?_
    exact zm_iret X hH rfl rfl hF dX6_actBury_49
set_option maxHeartbeats 4000000 in
set_option maxRecDepth 100000 in
theorem wm_actMove_265 {p : Program} {l : Launch} {e : Env} {s : State} {m : MethodId} {args : Array Value} {below : List Frame} {meth : Method} {c : Code} {D : va_G} {cI cZ : ClassId} {ad : Nat → Nat} {o : Nat} {Q : Int32 → (Nat → Int32) → (Nat → Nat → Int32) → Prop} (X : zm_Cx p s m args meth c cX6_actMove 8 (some .int) D cI cZ ad o) :
    ∀ (S : Nat → Int32) (M : Nat → Nat → Int32) (v1 : Int32) (v2 : Int32) (v3 : Int32) (v5 : Int32), fm_actMove_265 Q S M v1 v2 v3 v5 → ∀ (H : Heap) (locs : List Loc) (ls : Array Slot), lv_has ls 8 [(0, .ref o), (1, .int v1), (2, .int v2), (3, .int v3), (5, .int v5)] → zm_H D cI cZ ad o S M s H locs → W p l e (zm_R 3) s m args below meth c H locs 0 0 (MQ below (zm_QS Q D cI cZ ad o) args s 0 0 (zm_A ad o)) (F0 m 265 ls []) := by
  have hx := X.1
  have hb := X.2.1
  intro S M v1 v2 v3 v5 hF
  intro H locs ls hl hH
  unfold fm_actMove_265 at hF
  refine lv_aload_n hx hb dX6_actMove_265 rfl (lv_at hl 0 rfl) ?_
  refine zm_getf X hH 24 (by decide) rfl q1737 dX6_actMove_266 ?_
  refine lv_bipush (v := 8) hx hb dX6_actMove_269 (by decide) ?_
  refine lv_iload hx hb dX6_actMove_271 (lv_at hl 4 rfl) ?_
  refine lv_imul hx hb dX6_actMove_273 ?_
  refine lv_iconst (v := 2) hx hb dX6_actMove_274 (by decide) ?_
  refine lv_aload_n hx hb dX6_actMove_275 rfl (lv_at hl 0 rfl) ?_
  refine zm_getf X hH 32 (by decide) rfl q1745 dX6_actMove_276 ?_
  refine lv_iload_n hx hb dX6_actMove_279 rfl (lv_at hl 1 rfl) ?_
  obtain ⟨hI, hF⟩ := hF
  refine zm_iald X hH 32 (by decide) rfl (n := 150) rfl hI dX6_actMove_280 ?_
  refine lv_imul hx hb dX6_actMove_281 ?_
  refine lv_iadd hx hb dX6_actMove_282 ?_
  refine lv_aload_n hx hb dX6_actMove_283 rfl (lv_at hl 0 rfl) ?_
  refine zm_getf X hH 33 (by decide) rfl q1746 dX6_actMove_284 ?_
  refine lv_iload_n hx hb dX6_actMove_287 rfl (lv_at hl 1 rfl) ?_
  obtain ⟨hI, hF⟩ := hF
  refine zm_iald X hH 33 (by decide) rfl (n := 150) rfl hI dX6_actMove_288 ?_
  refine lv_iadd hx hb dX6_actMove_289 ?_
  refine lv_iconst (v := (-1)) hx hb dX6_actMove_290 (by decide) ?_
  obtain ⟨hI, hF⟩ := hF
  refine zm_iast X hH 24 (by decide) rfl (n := 1200) rfl hI dX6_actMove_291 (fun M1 H locs eM1 hH => ?_)
  have hF := hF M1 eM1
  refine lv_aload_n hx hb dX6_actMove_292 rfl (lv_at hl 0 rfl) ?_
  refine lv_dup hx hb dX6_actMove_293 rfl ?_
  refine zm_getf X hH 44 (by decide) rfl q1757 dX6_actMove_294 ?_
  refine lv_bipush (v := 90) hx hb dX6_actMove_297 (by decide) ?_
  refine lv_iadd hx hb dX6_actMove_299 ?_
  refine zm_puti X hH 44 (by decide) rfl rfl (by decide +kernel) q1757 dX6_actMove_300 (fun S2 H locs eS2 hH => ?_)
  have hF := hF S2 eS2
  refine lv_bipush (v := 90) hx hb dX6_actMove_303 (by decide) ?_
  refine lv_aload_n hx hb dX6_actMove_305 rfl (lv_at hl 0 rfl) ?_
  refine lv_iload_n hx hb dX6_actMove_306 rfl (lv_at hl 2 rfl) ?_
  refine lv_iload_n hx hb dX6_actMove_307 rfl (lv_at hl 3 rfl) ?_
  refine lv_iload_n hx hb dX6_actMove_308 rfl (lv_at hl 1 rfl) ?_
  refine lv_aload_n hx hb dX6_actMove_309 rfl (lv_at hl 0 rfl) ?_
  refine zm_getf X hH 35 (by decide) rfl q1748 dX6_actMove_310 ?_
  refine lv_iload_n hx hb dX6_actMove_313 rfl (lv_at hl 1 rfl) ?_
  obtain ⟨hI, hF⟩ := hF
  refine zm_iald X hH 35 (by decide) rfl (n := 150) rfl hI dX6_actMove_314 ?_
  refine lv_aload_n hx hb dX6_actMove_315 rfl (lv_at hl 0 rfl) ?_
  refine zm_getf X hH 34 (by decide) rfl q1747 dX6_actMove_316 ?_
  refine lv_iload_n hx hb dX6_actMove_319 rfl (lv_at hl 1 rfl) ?_
  obtain ⟨hI, hF⟩ := hF
  refine zm_iald X hH 34 (by decide) rfl (n := 150) rfl hI dX6_actMove_320 ?_
  refine zm_calli (As := [.int v2, .int v3, .int v1, .int (M1 35 v1.toNatClampNeg), .int (M1 34 v1.toNatClampNeg)]) (rest := [.int 90]) X hH (wm_lays l D cI cZ ad o X.2.2.2.2.2.2.2.2 S2 M1 v2 v3 v1 (M1 35 v1.toNatClampNeg) (M1 34 v1.toNatClampNeg) _ hF) (cwV 5 X.2.2.2.2.1 (lw_V q2039 q2041 qs69 q95 q2042) rfl rfl rfl (by decide +kernel) ⟨Nat.le_of_ble_eq_true rfl, Nat.le_of_ble_eq_true rfl⟩) rfl hl.1 rfl (Nat.le_of_ble_eq_true rfl) dX6_actMove_321 (Nat.le_refl 0) (Nat.le_refl 0) (fun r5 S3 M4 H locs hF hH => ?_)
  refine lv_iadd hx hb dX6_actMove_324 ?_
  exact zm_iret X hH rfl rfl hF dX6_actMove_325
set_option maxHeartbeats 4000000 in
set_option maxRecDepth 100000 in
theorem wm_actMove_202 {p : Program} {l : Launch} {e : Env} {s : State} {m : MethodId} {args : Array Value} {below : List Frame} {meth : Method} {c : Code} {D : va_G} {cI cZ : ClassId} {ad : Nat → Nat} {o : Nat} {Q : Int32 → (Nat → Int32) → (Nat → Nat → Int32) → Prop} (X : zm_Cx p s m args meth c cX6_actMove 8 (some .int) D cI cZ ad o) :
    ∀ (S : Nat → Int32) (M : Nat → Nat → Int32) (v1 : Int32) (v2 : Int32) (v3 : Int32) (v5 : Int32) (v6 : Int32), fm_actMove_202 Q S M v1 v2 v3 v5 v6 → ∀ (H : Heap) (locs : List Loc) (ls : Array Slot), lv_has ls 8 [(0, .ref o), (1, .int v1), (2, .int v2), (3, .int v3), (5, .int v5), (6, .int v6)] → zm_H D cI cZ ad o S M s H locs → W p l e (zm_R 3) s m args below meth c H locs 0 0 (MQ below (zm_QS Q D cI cZ ad o) args s 0 0 (zm_A ad o)) (F0 m 202 ls []) := by
  have hx := X.1
  have hb := X.2.1
  intro S M v1 v2 v3 v5 v6 hF
  intro H locs ls hl hH
  unfold fm_actMove_202 at hF
  refine lv_aload_n hx hb dX6_actMove_202 rfl (lv_at hl 0 rfl) ?_
  refine lv_iload_n hx hb dX6_actMove_203 rfl (lv_at hl 2 rfl) ?_
  refine lv_iload_n hx hb dX6_actMove_204 rfl (lv_at hl 3 rfl) ?_
  refine lv_iload_n hx hb dX6_actMove_205 rfl (lv_at hl 1 rfl) ?_
  refine lv_aload_n hx hb dX6_actMove_206 rfl (lv_at hl 0 rfl) ?_
  refine zm_getf X hH 35 (by decide) rfl q1748 dX6_actMove_207 ?_
  refine lv_iload_n hx hb dX6_actMove_210 rfl (lv_at hl 1 rfl) ?_
  obtain ⟨hI, hF⟩ := hF
  refine zm_iald X hH 35 (by decide) rfl (n := 150) rfl hI dX6_actMove_211 ?_
  refine lv_aload_n hx hb dX6_actMove_212 rfl (lv_at hl 0 rfl) ?_
  refine zm_getf X hH 34 (by decide) rfl q1747 dX6_actMove_213 ?_
  refine lv_iload_n hx hb dX6_actMove_216 rfl (lv_at hl 1 rfl) ?_
  obtain ⟨hI, hF⟩ := hF
  refine zm_iald X hH 34 (by decide) rfl (n := 150) rfl hI dX6_actMove_217 ?_
  refine lv_iconst (v := 1) hx hb dX6_actMove_218 (by decide) ?_
  refine zm_calli (As := [.int v2, .int v3, .int v1, .int (M 35 v1.toNatClampNeg), .int (M 34 v1.toNatClampNeg), .int 1]) (rest := []) X hH (wm_whyNot l D cI cZ ad o X.2.2.2.2.2.2.2.2 S M v2 v3 v1 (M 35 v1.toNatClampNeg) (M 34 v1.toNatClampNeg) 1 _ hF) (cwV 6 X.2.2.2.2.1 (lw_V q2011 q2013 qs62 q95 q2014) rfl rfl rfl (by decide +kernel) ⟨Nat.le_of_ble_eq_true rfl, Nat.le_of_ble_eq_true rfl⟩) rfl hl.1 rfl (Nat.le_of_ble_eq_true rfl) dX6_actMove_219 (Nat.le_refl 0) (Nat.le_refl 0) (fun r3 S1 M2 H locs hF hH => ?_)
  obtain ⟨hF, e9, e8⟩ := hF; subst e9; subst e8
  refine lv_istore (lv' := [(7, .int r3), (0, .ref o), (1, .int v1), (2, .int v2), (3, .int v3), (5, .int v5), (6, .int v6)]) hx hb dX6_actMove_222 hl (by decide) rfl (fun ls hl => ?_)
  refine lv_iload hx hb dX6_actMove_224 (lv_at hl 0 rfl) ?_
  refine lv_if_le (tgt := 233) hx hb dX6_actMove_226 (by decide) (fun cd => ?_) (fun cd => ?_)
  · have hF := hF.1 cd
    refine lv_aload_n hx hb dX6_actMove_233 rfl (lv_at hl 1 rfl) ?_
    refine zm_getf X hH 33 (by decide) rfl q1746 dX6_actMove_234 ?_
    refine lv_iload_n hx hb dX6_actMove_237 rfl (lv_at hl 2 rfl) ?_
    obtain ⟨hI, hF⟩ := hF
    refine zm_iald X hH 33 (by decide) rfl (n := 150) rfl hI dX6_actMove_238 ?_
    refine lv_iconst (v := 1) hx hb dX6_actMove_239 (by decide) ?_
    refine lv_icmp_ne (tgt := 265) hx hb dX6_actMove_240 (by decide) (fun cd => ?_) (fun cd => ?_)
    · have hF := hF.1 cd
      exact wm_actMove_265 X S M v1 v2 v3 v5 hF _ _ _ (lv_sub hl [1, 2, 3, 4, 5] rfl) hH
    · have hF := hF.2 cd
      refine lv_aload_n hx hb dX6_actMove_243 rfl (lv_at hl 1 rfl) ?_
      refine lv_iload hx hb dX6_actMove_244 (lv_at hl 6 rfl) ?_
      refine zm_calli (As := [.int v6]) (rest := []) X hH (wm_rests l D cI cZ ad o X.2.2.2.2.2.2.2.2 S M v6 _ hF) (cwV 1 X.2.2.2.2.1 (lw_V q2027 q2029 qs66 q95 q2030) rfl rfl rfl (by decide +kernel) ⟨Nat.le_of_ble_eq_true rfl, Nat.le_of_ble_eq_true rfl⟩) rfl hl.1 rfl (Nat.le_of_ble_eq_true rfl) dX6_actMove_246 (Nat.le_refl 0) (Nat.le_refl 0) (fun r6 S4 M5 H locs hF hH => ?_)
      obtain ⟨hF, e9, e8⟩ := hF; subst e9; subst e8
      refine lv_if_ne (tgt := 265) hx hb dX6_actMove_249 (by decide) (fun cd => ?_) (fun cd => ?_)
      · have hF := hF.1 cd
        exact wm_actMove_265 X S M v1 v2 v3 v5 hF _ _ _ (lv_sub hl [1, 2, 3, 4, 5] rfl) hH
      · have hF := hF.2 cd
        refine lv_aload_n hx hb dX6_actMove_252 rfl (lv_at hl 1 rfl) ?_
        refine lv_iload hx hb dX6_actMove_253 (lv_at hl 5 rfl) ?_
        refine lv_aload_n hx hb dX6_actMove_255 rfl (lv_at hl 1 rfl) ?_
        refine zm_getf X hH 32 (by decide) rfl q1745 dX6_actMove_256 ?_
        refine lv_iload_n hx hb dX6_actMove_259 rfl (lv_at hl 2 rfl) ?_
        obtain ⟨hI, hF⟩ := hF
        refine zm_iald X hH 32 (by decide) rfl (n := 150) rfl hI dX6_actMove_260 ?_
        refine lv_iconst (v := 0) hx hb dX6_actMove_261 (by decide) ?_
        refine zm_callv (As := [.int v5, .int (M 32 v1.toNatClampNeg), .int 0]) (rest := []) X hH (wm_toEarth l D cI cZ ad o X.2.2.2.2.2.2.2.2 S M v5 (M 32 v1.toNatClampNeg) 0 _ hF) (cwV 3 X.2.2.2.2.1 (lw_V q2043 q2045 qs70 q95 q2046) rfl rfl rfl (by decide +kernel) ⟨Nat.le_of_ble_eq_true rfl, Nat.le_of_ble_eq_true rfl⟩) rfl hl.1 rfl (Nat.le_of_ble_eq_true rfl) dX6_actMove_262 (Nat.le_refl 0) (Nat.le_refl 0) (fun S7 M8 H locs hF hH => ?_)
        exact wm_actMove_265 X S7 M8 v1 v2 v3 v5 hF _ _ _ (lv_sub hl [1, 2, 3, 4, 5] rfl) hH
  · have hF := hF.2 cd
    refine lv_iload hx hb dX6_actMove_229 (lv_at hl 0 rfl) ?_
    refine lv_ineg hx hb dX6_actMove_231 ?_
    exact zm_iret X hH rfl rfl hF dX6_actMove_232
set_option maxHeartbeats 4000000 in
set_option maxRecDepth 100000 in
theorem wm_actMove_181 {p : Program} {l : Launch} {e : Env} {s : State} {m : MethodId} {args : Array Value} {below : List Frame} {meth : Method} {c : Code} {D : va_G} {cI cZ : ClassId} {ad : Nat → Nat} {o : Nat} {Q : Int32 → (Nat → Int32) → (Nat → Nat → Int32) → Prop} (X : zm_Cx p s m args meth c cX6_actMove 8 (some .int) D cI cZ ad o) :
    ∀ (S : Nat → Int32) (M : Nat → Nat → Int32) (v1 : Int32) (v2 : Int32) (v3 : Int32) (v4 : Int32) (v5 : Int32) (t0 : Int32), fm_actMove_181 Q S M v1 v2 v3 v4 v5 t0 → ∀ (H : Heap) (locs : List Loc) (ls : Array Slot), lv_has ls 8 [(0, .ref o), (1, .int v1), (2, .int v2), (3, .int v3), (4, .int v4), (5, .int v5)] → zm_H D cI cZ ad o S M s H locs → W p l e (zm_R 3) s m args below meth c H locs 0 0 (MQ below (zm_QS Q D cI cZ ad o) args s 0 0 (zm_A ad o)) (F0 m 181 ls [.int t0]) := by
  have hx := X.1
  have hb := X.2.1
  intro S M v1 v2 v3 v4 v5 t0 hF
  intro H locs ls hl hH
  unfold fm_actMove_181 at hF
  refine lv_istore (lv' := [(6, .int t0), (0, .ref o), (1, .int v1), (2, .int v2), (3, .int v3), (4, .int v4), (5, .int v5)]) hx hb dX6_actMove_181 hl (by decide) rfl (fun ls hl => ?_)
  refine lv_aload_n hx hb dX6_actMove_183 rfl (lv_at hl 1 rfl) ?_
  refine lv_iload hx hb dX6_actMove_184 (lv_at hl 0 rfl) ?_
  refine zm_calli (As := [.int t0]) (rest := []) X hH (wm_rests l D cI cZ ad o X.2.2.2.2.2.2.2.2 S M t0 _ hF) (cwV 1 X.2.2.2.2.1 (lw_V q2027 q2029 qs66 q95 q2030) rfl rfl rfl (by decide +kernel) ⟨Nat.le_of_ble_eq_true rfl, Nat.le_of_ble_eq_true rfl⟩) rfl hl.1 rfl (Nat.le_of_ble_eq_true rfl) dX6_actMove_186 (Nat.le_refl 0) (Nat.le_refl 0) (fun r3 S1 M2 H locs hF hH => ?_)
  obtain ⟨hF, e9, e8⟩ := hF; subst e9; subst e8
  refine lv_if_eq (tgt := 202) hx hb dX6_actMove_189 (by decide) (fun cd => ?_) (fun cd => ?_)
  · have hF := hF.1 cd
    exact wm_actMove_202 X S M v1 v2 v3 v5 t0 hF _ _ _ (lv_sub hl [1, 2, 3, 4, 6, 0] rfl) hH
  · have hF := hF.2 cd
    refine lv_iload hx hb dX6_actMove_192 (lv_at hl 0 rfl) ?_
    refine lv_iload hx hb dX6_actMove_194 (lv_at hl 5 rfl) ?_
    refine lv_icmp_eq (tgt := 202) hx hb dX6_actMove_196 (by decide) (fun cd => ?_) (fun cd => ?_)
    · have hF := hF.1 cd
      exact wm_actMove_202 X S M v1 v2 v3 v5 t0 hF _ _ _ (lv_sub hl [1, 2, 3, 4, 6, 0] rfl) hH
    · have hF := hF.2 cd
      refine lv_bipush (v := (-8)) hx hb dX6_actMove_199 (by decide) ?_
      exact zm_iret X hH rfl rfl hF dX6_actMove_201
set_option maxHeartbeats 4000000 in
set_option maxRecDepth 100000 in
theorem wm_actMove_88 {p : Program} {l : Launch} {e : Env} {s : State} {m : MethodId} {args : Array Value} {below : List Frame} {meth : Method} {c : Code} {D : va_G} {cI cZ : ClassId} {ad : Nat → Nat} {o : Nat} {Q : Int32 → (Nat → Int32) → (Nat → Nat → Int32) → Prop} (X : zm_Cx p s m args meth c cX6_actMove 8 (some .int) D cI cZ ad o) :
    ∀ (S : Nat → Int32) (M : Nat → Nat → Int32) (v1 : Int32) (v2 : Int32) (v3 : Int32) (v4 : Int32), fm_actMove_88 Q S M v1 v2 v3 v4 → ∀ (H : Heap) (locs : List Loc) (ls : Array Slot), lv_has ls 8 [(0, .ref o), (1, .int v1), (2, .int v2), (3, .int v3), (4, .int v4)] → zm_H D cI cZ ad o S M s H locs → W p l e (zm_R 3) s m args below meth c H locs 0 0 (MQ below (zm_QS Q D cI cZ ad o) args s 0 0 (zm_A ad o)) (F0 m 88 ls []) := by
  have hx := X.1
  have hb := X.2.1
  intro S M v1 v2 v3 v4 hF
  intro H locs ls hl hH
  unfold fm_actMove_88 at hF
  refine lv_aload_n hx hb dX6_actMove_88 rfl (lv_at hl 0 rfl) ?_
  refine zm_getf X hH 30 (by decide) rfl q1743 dX6_actMove_89 ?_
  refine lv_iload_n hx hb dX6_actMove_92 rfl (lv_at hl 1 rfl) ?_
  obtain ⟨hI, hF⟩ := hF
  refine zm_iald X hH 30 (by decide) rfl (n := 150) rfl hI dX6_actMove_93 ?_
  refine lv_iconst (v := 2) hx hb dX6_actMove_94 (by decide) ?_
  refine lv_icmp_ne (tgt := 123) hx hb dX6_actMove_95 (by decide) (fun cd => ?_) (fun cd => ?_)
  · have hF := hF.1 cd
    refine lv_bipush (v := (-3)) hx hb dX6_actMove_123 (by decide) ?_
    exact zm_iret X hH rfl rfl hF dX6_actMove_125
  · have hF := hF.2 cd
    refine lv_aload_n hx hb dX6_actMove_98 rfl (lv_at hl 0 rfl) ?_
    refine zm_getf X hH 33 (by decide) rfl q1746 dX6_actMove_99 ?_
    refine lv_iload_n hx hb dX6_actMove_102 rfl (lv_at hl 1 rfl) ?_
    obtain ⟨hI, hF⟩ := hF
    refine zm_iald X hH 33 (by decide) rfl (n := 150) rfl hI dX6_actMove_103 ?_
    refine lv_iconst (v := 2) hx hb dX6_actMove_104 (by decide) ?_
    refine lv_icmp_eq (tgt := 123) hx hb dX6_actMove_105 (by decide) (fun cd => ?_) (fun cd => ?_)
    · have hF := hF.1 cd
      refine lv_bipush (v := (-3)) hx hb dX6_actMove_123 (by decide) ?_
      exact zm_iret X hH rfl rfl hF dX6_actMove_125
    · have hF := hF.2 cd
      refine lv_aload_n hx hb dX6_actMove_108 rfl (lv_at hl 0 rfl) ?_
      refine zm_getf X hH 10 (by decide) rfl q1723 dX6_actMove_109 ?_
      refine lv_aload_n hx hb dX6_actMove_112 rfl (lv_at hl 0 rfl) ?_
      refine zm_getf X hH 31 (by decide) rfl q1744 dX6_actMove_113 ?_
      refine lv_iload_n hx hb dX6_actMove_116 rfl (lv_at hl 1 rfl) ?_
      obtain ⟨hI, hF⟩ := hF
      refine zm_iald X hH 31 (by decide) rfl (n := 150) rfl hI dX6_actMove_117 ?_
      obtain ⟨hI, hF⟩ := hF
      refine zm_iald X hH 10 (by decide) rfl (n := 150) rfl hI dX6_actMove_118 ?_
      refine lv_iconst (v := 5) hx hb dX6_actMove_119 (by decide) ?_
      refine lv_icmp_ne (tgt := 126) hx hb dX6_actMove_120 (by decide) (fun cd => ?_) (fun cd => ?_)
      · have hF := hF.1 cd
        refine lv_aload_n hx hb dX6_actMove_126 rfl (lv_at hl 0 rfl) ?_
        refine zm_getf X hH 31 (by decide) rfl q1744 dX6_actMove_127 ?_
        refine lv_iload_n hx hb dX6_actMove_130 rfl (lv_at hl 1 rfl) ?_
        obtain ⟨hI, hF⟩ := hF
        refine zm_iald X hH 31 (by decide) rfl (n := 150) rfl hI dX6_actMove_131 ?_
        refine lv_topi (fun x1 ex1 => ?_)
        have hF := hF x1 ex1
        refine lv_istore (lv' := [(5, .int x1), (0, .ref o), (1, .int v1), (2, .int v2), (3, .int v3), (4, .int v4)]) hx hb dX6_actMove_132 hl (by decide) rfl (fun ls hl => ?_)
        refine lv_aload_n hx hb dX6_actMove_134 rfl (lv_at hl 1 rfl) ?_
        refine zm_getf X hH 11 (by decide) rfl q1724 dX6_actMove_135 ?_
        refine lv_iload hx hb dX6_actMove_138 (lv_at hl 0 rfl) ?_
        obtain ⟨hI, hF⟩ := hF
        refine zm_iald X hH 11 (by decide) rfl (n := 150) rfl hI dX6_actMove_140 ?_
        refine lv_iconst (v := 1) hx hb dX6_actMove_141 (by decide) ?_
        refine lv_icmp_eq (tgt := 148) hx hb dX6_actMove_142 (by decide) (fun cd => ?_) (fun cd => ?_)
        · have hF := hF.1 cd
          refine lv_aload_n hx hb dX6_actMove_148 rfl (lv_at hl 1 rfl) ?_
          refine zm_getf X hH 33 (by decide) rfl q1746 dX6_actMove_149 ?_
          refine lv_iload_n hx hb dX6_actMove_152 rfl (lv_at hl 2 rfl) ?_
          obtain ⟨hI, hF⟩ := hF
          refine zm_iald X hH 33 (by decide) rfl (n := 150) rfl hI dX6_actMove_153 ?_
          refine lv_iconst (v := 1) hx hb dX6_actMove_154 (by decide) ?_
          refine lv_icmp_ne (tgt := 180) hx hb dX6_actMove_155 (by decide) (fun cd => ?_) (fun cd => ?_)
          · have hF := hF.1 cd
            refine lv_iconst (v := (-1)) hx hb dX6_actMove_180 (by decide) ?_
            exact wm_actMove_181 X S M v1 v2 v3 v4 x1 (-1) hF _ _ _ (lv_sub hl [1, 2, 3, 4, 5, 0] rfl) hH
          · have hF := hF.2 cd
            refine lv_aload_n hx hb dX6_actMove_158 rfl (lv_at hl 1 rfl) ?_
            refine zm_getf X hH 24 (by decide) rfl q1737 dX6_actMove_159 ?_
            refine lv_bipush (v := 8) hx hb dX6_actMove_162 (by decide) ?_
            refine lv_iload hx hb dX6_actMove_164 (lv_at hl 0 rfl) ?_
            refine lv_imul hx hb dX6_actMove_166 ?_
            refine lv_iconst (v := 2) hx hb dX6_actMove_167 (by decide) ?_
            refine lv_aload_n hx hb dX6_actMove_168 rfl (lv_at hl 1 rfl) ?_
            refine zm_getf X hH 32 (by decide) rfl q1745 dX6_actMove_169 ?_
            refine lv_iload_n hx hb dX6_actMove_172 rfl (lv_at hl 2 rfl) ?_
            obtain ⟨hI, hF⟩ := hF
            refine zm_iald X hH 32 (by decide) rfl (n := 150) rfl hI dX6_actMove_173 ?_
            refine lv_imul hx hb dX6_actMove_174 ?_
            refine lv_iadd hx hb dX6_actMove_175 ?_
            obtain ⟨hI, hF⟩ := hF
            refine zm_iald X hH 24 (by decide) rfl (n := 1200) rfl hI dX6_actMove_176 ?_
            refine lv_goto (tgt := 181) hx hb dX6_actMove_177 (by decide) ?_
            exact wm_actMove_181 X S M v1 v2 v3 v4 x1 (M 24 ((8 * x1) + (2 * (M 32 v1.toNatClampNeg))).toNatClampNeg) hF _ _ _ (lv_sub hl [1, 2, 3, 4, 5, 0] rfl) hH
        · have hF := hF.2 cd
          refine lv_bipush (v := (-4)) hx hb dX6_actMove_145 (by decide) ?_
          exact zm_iret X hH rfl rfl hF dX6_actMove_147
      · have hF := hF.2 cd
        refine lv_bipush (v := (-3)) hx hb dX6_actMove_123 (by decide) ?_
        exact zm_iret X hH rfl rfl hF dX6_actMove_125
set_option maxHeartbeats 4000000 in
set_option maxRecDepth 100000 in
theorem wm_actMove_56 {p : Program} {l : Launch} {e : Env} {s : State} {m : MethodId} {args : Array Value} {below : List Frame} {meth : Method} {c : Code} {D : va_G} {cI cZ : ClassId} {ad : Nat → Nat} {o : Nat} {Q : Int32 → (Nat → Int32) → (Nat → Nat → Int32) → Prop} (X : zm_Cx p s m args meth c cX6_actMove 8 (some .int) D cI cZ ad o) :
    ∀ (S : Nat → Int32) (M : Nat → Nat → Int32) (v1 : Int32) (v2 : Int32) (v3 : Int32) (v4 : Int32), fm_actMove_56 Q S M v1 v2 v3 v4 → ∀ (H : Heap) (locs : List Loc) (ls : Array Slot), lv_has ls 8 [(0, .ref o), (1, .int v1), (2, .int v2), (3, .int v3), (4, .int v4)] → zm_H D cI cZ ad o S M s H locs → W p l e (zm_R 3) s m args below meth c H locs 0 0 (MQ below (zm_QS Q D cI cZ ad o) args s 0 0 (zm_A ad o)) (F0 m 56 ls []) := by
  have hx := X.1
  have hb := X.2.1
  intro S M v1 v2 v3 v4 hF
  intro H locs ls hl hH
  unfold fm_actMove_56 at hF
  refine lv_aload_n hx hb dX6_actMove_56 rfl (lv_at hl 0 rfl) ?_
  refine zm_getf X hH 30 (by decide) rfl q1743 dX6_actMove_57 ?_
  refine lv_iload_n hx hb dX6_actMove_60 rfl (lv_at hl 1 rfl) ?_
  obtain ⟨hI, hF⟩ := hF
  refine zm_iald X hH 30 (by decide) rfl (n := 150) rfl hI dX6_actMove_61 ?_
  refine lv_iconst (v := 2) hx hb dX6_actMove_62 (by decide) ?_
  refine lv_icmp_ne (tgt := 88) hx hb dX6_actMove_63 (by decide) (fun cd => ?_) (fun cd => ?_)
  · have hF := hF.1 cd
    exact wm_actMove_88 X S M v1 v2 v3 v4 hF _ _ _ (lv_sub hl [0, 1, 2, 3, 4] rfl) hH
  · have hF := hF.2 cd
    refine lv_aload_n hx hb dX6_actMove_66 rfl (lv_at hl 0 rfl) ?_
    refine zm_getf X hH 31 (by decide) rfl q1744 dX6_actMove_67 ?_
    refine lv_iload_n hx hb dX6_actMove_70 rfl (lv_at hl 1 rfl) ?_
    obtain ⟨hI, hF⟩ := hF
    refine zm_iald X hH 31 (by decide) rfl (n := 150) rfl hI dX6_actMove_71 ?_
    refine lv_iload_n hx hb dX6_actMove_72 rfl (lv_at hl 2 rfl) ?_
    refine lv_icmp_ne (tgt := 88) hx hb dX6_actMove_73 (by decide) (fun cd => ?_) (fun cd => ?_)
    · have hF := hF.1 cd
      exact wm_actMove_88 X S M v1 v2 v3 v4 hF _ _ _ (lv_sub hl [0, 1, 2, 3, 4] rfl) hH
    · have hF := hF.2 cd
      refine lv_aload_n hx hb dX6_actMove_76 rfl (lv_at hl 0 rfl) ?_
      refine zm_getf X hH 32 (by decide) rfl q1745 dX6_actMove_77 ?_
      refine lv_iload_n hx hb dX6_actMove_80 rfl (lv_at hl 1 rfl) ?_
      obtain ⟨hI, hF⟩ := hF
      refine zm_iald X hH 32 (by decide) rfl (n := 150) rfl hI dX6_actMove_81 ?_
      refine lv_iload_n hx hb dX6_actMove_82 rfl (lv_at hl 3 rfl) ?_
      refine lv_icmp_ne (tgt := 88) hx hb dX6_actMove_83 (by decide) (fun cd => ?_) (fun cd => ?_)
      · have hF := hF.1 cd
        exact wm_actMove_88 X S M v1 v2 v3 v4 hF _ _ _ (lv_sub hl [0, 1, 2, 3, 4] rfl) hH
      · have hF := hF.2 cd
        refine lv_iconst (v := (-1)) hx hb dX6_actMove_86 (by decide) ?_
        exact zm_iret X hH rfl rfl hF dX6_actMove_87
set_option maxHeartbeats 4000000 in
set_option maxRecDepth 100000 in
/-- actMove: what the bytecode asks is what its run needs -/
theorem wm_actMove (l : Launch) (D : va_G) (cI cZ : ClassId) (ad : Nat → Nat) (o : Nat) (hAd : zm_Ad ad o) (S : Nat → Int32) (M : Nat → Nat → Int32) (v1 : Int32) (v2 : Int32) (v3 : Int32) (v4 : Int32) (Q : Int32 → (Nat → Int32) → (Nat → Nat → Int32) → Prop) (hF : fm_actMove S M v1 v2 v3 v4 Q) :
    zm_Mi l yX6_actMove (ws_ yX6_actMove cX6_actMove 8 (some .int)) 3 D cI cZ ad o [.int v1, .int v2, .int v3, .int v4] S M Q := by
  refine zm_ofi rfl hAd (Nat.le_of_ble_eq_true rfl) ?_
  intro p e s m args below meth c H locs ls X hH hl
  have hx := X.1
  have hb := X.2.1
  have hl : lv_has ls 8 [(0, .ref o), (1, .int v1), (2, .int v2), (3, .int v3), (4, .int v4)] := hl
  unfold fm_actMove at hF
  refine lv_aload_n hx hb dX6_actMove_0 rfl (lv_at hl 0 rfl) ?_
  refine lv_iload_n hx hb dX6_actMove_1 rfl (lv_at hl 1 rfl) ?_
  refine zm_calli (As := [.int v1]) (rest := []) X hH (wm_isPerson l D cI cZ ad o X.2.2.2.2.2.2.2.2 S M v1 _ hF) (cwV 1 X.2.2.2.2.1 (lw_V q1941 q1943 qs45 q95 q1944) rfl rfl rfl (by decide +kernel) ⟨Nat.le_of_ble_eq_true rfl, Nat.le_of_ble_eq_true rfl⟩) rfl hl.1 rfl (Nat.le_of_ble_eq_true rfl) dX6_actMove_2 (Nat.le_refl 0) (Nat.le_refl 0) (fun r3 S1 M2 H locs hF hH => ?_)
  obtain ⟨hF, e9, e8⟩ := hF; subst e9; subst e8
  refine lv_if_eq (tgt := 54) hx hb dX6_actMove_5 (by decide) (fun cd => ?_) (fun cd => ?_)
  · have hF := hF.1 cd
    refine lv_iconst (v := (-1)) hx hb dX6_actMove_54 (by decide) ?_
    exact zm_iret X hH rfl rfl hF dX6_actMove_55
  · have hF := hF.2 cd
    refine lv_aload_n hx hb dX6_actMove_8 rfl (lv_at hl 0 rfl) ?_
    refine lv_iload_n hx hb dX6_actMove_9 rfl (lv_at hl 2 rfl) ?_
    refine zm_calli (As := [.int v2]) (rest := []) X hH (wm_isGrave l D cI cZ ad o X.2.2.2.2.2.2.2.2 S M v2 _ hF) (cwV 1 X.2.2.2.2.1 (lw_V q1953 q1955 qs48 q95 q1956) rfl rfl rfl (by decide +kernel) ⟨Nat.le_of_ble_eq_true rfl, Nat.le_of_ble_eq_true rfl⟩) rfl hl.1 rfl (Nat.le_of_ble_eq_true rfl) dX6_actMove_10 (Nat.le_refl 0) (Nat.le_refl 0) (fun r6 S4 M5 H locs hF hH => ?_)
    obtain ⟨hF, e9, e8⟩ := hF; subst e9; subst e8
    refine lv_if_eq (tgt := 54) hx hb dX6_actMove_13 (by decide) (fun cd => ?_) (fun cd => ?_)
    · have hF := hF.1 cd
      refine lv_iconst (v := (-1)) hx hb dX6_actMove_54 (by decide) ?_
      exact zm_iret X hH rfl rfl hF dX6_actMove_55
    · have hF := hF.2 cd
      refine lv_aload_n hx hb dX6_actMove_16 rfl (lv_at hl 0 rfl) ?_
      refine zm_getf X hH 11 (by decide) rfl q1724 dX6_actMove_17 ?_
      refine lv_iload_n hx hb dX6_actMove_20 rfl (lv_at hl 2 rfl) ?_
      obtain ⟨hI, hF⟩ := hF
      refine zm_iald X hH 11 (by decide) rfl (n := 150) rfl hI dX6_actMove_21 ?_
      refine lv_iconst (v := 4) hx hb dX6_actMove_22 (by decide) ?_
      refine lv_icmp_eq (tgt := 54) hx hb dX6_actMove_23 (by decide) (fun cd => ?_) (fun cd => ?_)
      · have hF := hF.1 cd
        refine lv_iconst (v := (-1)) hx hb dX6_actMove_54 (by decide) ?_
        exact zm_iret X hH rfl rfl hF dX6_actMove_55
      · have hF := hF.2 cd
        refine lv_iload_n hx hb dX6_actMove_26 rfl (lv_at hl 3 rfl) ?_
        refine lv_if_lt (tgt := 54) hx hb dX6_actMove_27 (by decide) (fun cd => ?_) (fun cd => ?_)
        · have hF := hF.1 cd
          refine lv_iconst (v := (-1)) hx hb dX6_actMove_54 (by decide) ?_
          exact zm_iret X hH rfl rfl hF dX6_actMove_55
        · have hF := hF.2 cd
          refine lv_iload_n hx hb dX6_actMove_30 rfl (lv_at hl 3 rfl) ?_
          refine lv_aload_n hx hb dX6_actMove_31 rfl (lv_at hl 0 rfl) ?_
          refine lv_iload_n hx hb dX6_actMove_32 rfl (lv_at hl 2 rfl) ?_
          refine zm_calli (As := [.int v2]) (rest := [.int v3]) X hH (wm_columns l D cI cZ ad o X.2.2.2.2.2.2.2.2 S M v2 _ hF) (cwV 1 X.2.2.2.2.1 (lw_V q2015 q2017 qs63 q95 q2018) rfl rfl rfl (by decide +kernel) ⟨Nat.le_of_ble_eq_true rfl, Nat.le_of_ble_eq_true rfl⟩) rfl hl.1 rfl (Nat.le_of_ble_eq_true rfl) dX6_actMove_33 (Nat.le_refl 0) (Nat.le_refl 0) (fun r9 S7 M8 H locs hF hH => ?_)
          obtain ⟨hF, e9, e8⟩ := hF; subst e9; subst e8
          refine lv_icmp_ge (tgt := 54) hx hb dX6_actMove_36 (by decide) (fun cd => ?_) (fun cd => ?_)
          · have hF := hF.1 cd
            refine lv_iconst (v := (-1)) hx hb dX6_actMove_54 (by decide) ?_
            exact zm_iret X hH rfl rfl hF dX6_actMove_55
          · have hF := hF.2 cd
            refine lv_iload hx hb dX6_actMove_39 (lv_at hl 4 rfl) ?_
            refine lv_iconst (v := (-1)) hx hb dX6_actMove_41 (by decide) ?_
            refine lv_icmp_eq (tgt := 56) hx hb dX6_actMove_42 (by decide) (fun cd => ?_) (fun cd => ?_)
            · have hF := hF.1 cd
              exact wm_actMove_56 X S M v1 v2 v3 v4 hF _ _ _ (lv_sub hl [0, 1, 2, 3, 4] rfl) hH
            · have hF := hF.2 cd
              refine lv_aload_n hx hb dX6_actMove_45 rfl (lv_at hl 0 rfl) ?_
              refine lv_iload hx hb dX6_actMove_46 (lv_at hl 4 rfl) ?_
              refine zm_calli (As := [.int v4]) (rest := []) X hH (wm_isPerson l D cI cZ ad o X.2.2.2.2.2.2.2.2 S M v4 _ hF) (cwV 1 X.2.2.2.2.1 (lw_V q1941 q1943 qs45 q95 q1944) rfl rfl rfl (by decide +kernel) ⟨Nat.le_of_ble_eq_true rfl, Nat.le_of_ble_eq_true rfl⟩) rfl hl.1 rfl (Nat.le_of_ble_eq_true rfl) dX6_actMove_48 (Nat.le_refl 0) (Nat.le_refl 0) (fun r12 S10 M11 H locs hF hH => ?_)
              obtain ⟨hF, e9, e8⟩ := hF; subst e9; subst e8
              refine lv_if_ne (tgt := 56) hx hb dX6_actMove_51 (by decide) (fun cd => ?_) (fun cd => ?_)
              · have hF := hF.1 cd
                exact wm_actMove_56 X S M v1 v2 v3 v4 hF _ _ _ (lv_sub hl [0, 1, 2, 3, 4] rfl) hH
              · have hF := hF.2 cd
                refine lv_iconst (v := (-1)) hx hb dX6_actMove_54 (by decide) ?_
                exact zm_iret X hH rfl rfl hF dX6_actMove_55
set_option maxHeartbeats 4000000 in
set_option maxRecDepth 100000 in
/-- isMeadowBy: what the bytecode asks is what its run needs -/
theorem wm_isMeadowBy (l : Launch) (D : va_G) (cI cZ : ClassId) (ad : Nat → Nat) (o : Nat) (hAd : zm_Ad ad o) (S : Nat → Int32) (M : Nat → Nat → Int32) (v1 : Int32) (v2 : Int32) (Q : Int32 → Prop) (hF : fm_isMeadowBy S M v1 v2 Q) :
    zm_Mi l yX6_isMeadowBy (ws_ yX6_isMeadowBy cX6_isMeadowBy 3 (some .boolean)) 0 D cI cZ ad o [.int v1, .int v2] S M (fun r S1 M1 => Q r ∧ S = S1 ∧ M = M1) := by
  refine zm_ofi rfl hAd (Nat.le_of_ble_eq_true rfl) ?_
  intro p e s m args below meth c H locs ls X hH hl
  have hx := X.1
  have hb := X.2.1
  have hl : lv_has ls 3 [(0, .ref o), (1, .int v1), (2, .int v2)] := hl
  unfold fm_isMeadowBy at hF
  refine lv_aload_n hx hb dX6_isMeadowBy_0 rfl (lv_at hl 0 rfl) ?_
  refine zm_getf X hH 10 (by decide) rfl q1723 dX6_isMeadowBy_1 ?_
  refine lv_iload_n hx hb dX6_isMeadowBy_4 rfl (lv_at hl 1 rfl) ?_
  obtain ⟨hI, hF⟩ := hF
  refine zm_iald X hH 10 (by decide) rfl (n := 150) rfl hI dX6_isMeadowBy_5 ?_
  refine lv_iconst (v := 5) hx hb dX6_isMeadowBy_6 (by decide) ?_
  refine lv_icmp_ne (tgt := 45) hx hb dX6_isMeadowBy_7 (by decide) (fun cd => ?_) (fun cd => ?_)
  · have hF := hF.1 cd
    refine lv_iconst (v := 0) hx hb dX6_isMeadowBy_45 (by decide) ?_
    exact zm_iret X hH rfl rfl ⟨hF, rfl, rfl⟩ dX6_isMeadowBy_46
  · have hF := hF.2 cd
    refine lv_aload_n hx hb dX6_isMeadowBy_10 rfl (lv_at hl 0 rfl) ?_
    refine zm_getf X hH 11 (by decide) rfl q1724 dX6_isMeadowBy_11 ?_
    refine lv_iload_n hx hb dX6_isMeadowBy_14 rfl (lv_at hl 1 rfl) ?_
    obtain ⟨hI, hF⟩ := hF
    refine zm_iald X hH 11 (by decide) rfl (n := 150) rfl hI dX6_isMeadowBy_15 ?_
    refine lv_iconst (v := 4) hx hb dX6_isMeadowBy_16 (by decide) ?_
    refine lv_icmp_eq (tgt := 45) hx hb dX6_isMeadowBy_17 (by decide) (fun cd => ?_) (fun cd => ?_)
    · have hF := hF.1 cd
      refine lv_iconst (v := 0) hx hb dX6_isMeadowBy_45 (by decide) ?_
      exact zm_iret X hH rfl rfl ⟨hF, rfl, rfl⟩ dX6_isMeadowBy_46
    · have hF := hF.2 cd
      refine lv_aload_n hx hb dX6_isMeadowBy_20 rfl (lv_at hl 0 rfl) ?_
      refine zm_getf X hH 16 (by decide) rfl q1729 dX6_isMeadowBy_21 ?_
      refine lv_iload_n hx hb dX6_isMeadowBy_24 rfl (lv_at hl 1 rfl) ?_
      obtain ⟨hI, hF⟩ := hF
      refine zm_iald X hH 16 (by decide) rfl (n := 150) rfl hI dX6_isMeadowBy_25 ?_
      refine lv_bipush (v := 12) hx hb dX6_isMeadowBy_26 (by decide) ?_
      refine lv_idiv hx hb dX6_isMeadowBy_28 (by decide) ?_
      refine lv_aload_n hx hb dX6_isMeadowBy_29 rfl (lv_at hl 0 rfl) ?_
      refine zm_getf X hH 16 (by decide) rfl q1729 dX6_isMeadowBy_30 ?_
      refine lv_iload_n hx hb dX6_isMeadowBy_33 rfl (lv_at hl 2 rfl) ?_
      obtain ⟨hI, hF⟩ := hF
      refine zm_iald X hH 16 (by decide) rfl (n := 150) rfl hI dX6_isMeadowBy_34 ?_
      refine lv_bipush (v := 12) hx hb dX6_isMeadowBy_35 (by decide) ?_
      refine lv_idiv hx hb dX6_isMeadowBy_37 (by decide) ?_
      refine lv_icmp_ne (tgt := 45) hx hb dX6_isMeadowBy_38 (by decide) (fun cd => ?_) (fun cd => ?_)
      · have hF := hF.1 cd
        refine lv_iconst (v := 0) hx hb dX6_isMeadowBy_45 (by decide) ?_
        exact zm_iret X hH rfl rfl ⟨hF, rfl, rfl⟩ dX6_isMeadowBy_46
      · have hF := hF.2 cd
        refine lv_iconst (v := 1) hx hb dX6_isMeadowBy_41 (by decide) ?_
        refine lv_goto (tgt := 46) hx hb dX6_isMeadowBy_42 (by decide) ?_
        exact zm_iret X hH rfl rfl ⟨hF, rfl, rfl⟩ dX6_isMeadowBy_46
set_option maxHeartbeats 4000000 in
set_option maxRecDepth 100000 in
theorem wm_toMeadow_22 {p : Program} {l : Launch} {e : Env} {s : State} {m : MethodId} {args : Array Value} {below : List Frame} {meth : Method} {c : Code} {D : va_G} {cI cZ : ClassId} {ad : Nat → Nat} {o : Nat} {Q : (Nat → Int32) → (Nat → Nat → Int32) → Prop} {K2 : (Nat → Int32) → (Nat → Nat → Int32) → Int32 → Int32 → Int32 → Prop} (X : zm_Cx p s m args meth c cX6_toMeadow 4 none D cI cZ ad o) (hK2 : ∀ (S : Nat → Int32) (M : Nat → Nat → Int32) (v1 : Int32) (v2 : Int32) (v3 : Int32), K2 S M v1 v2 v3 → ∀ (H : Heap) (locs : List Loc) (ls : Array Slot), lv_has ls 4 [(0, .ref o), (1, .int v1), (2, .int v2), (3, .int v3)] → zm_H D cI cZ ad o S M s H locs → W p l e (zm_R 1) s m args below meth c H locs 0 0 (MQ below (zm_QV Q D cI cZ ad o) args s 0 0 (zm_A ad o)) (F0 m 2 ls [])) :
    ∀ (S : Nat → Int32) (M : Nat → Nat → Int32) (v1 : Int32) (v2 : Int32) (v3 : Int32), fm_toMeadow_22 Q K2 S M v1 v2 v3 → ∀ (H : Heap) (locs : List Loc) (ls : Array Slot), lv_has ls 4 [(0, .ref o), (1, .int v1), (2, .int v2), (3, .int v3)] → zm_H D cI cZ ad o S M s H locs → W p l e (zm_R 1) s m args below meth c H locs 0 0 (MQ below (zm_QV Q D cI cZ ad o) args s 0 0 (zm_A ad o)) (F0 m 22 ls []) := by
  have hx := X.1
  have hb := X.2.1
  intro S M v1 v2 v3 hF
  intro H locs ls hl hH
  unfold fm_toMeadow_22 at hF
  obtain ⟨x1, ex1⟩ : ∃ z : Int32, z = v3 + 1 := ⟨_, rfl⟩
  have hF := hF x1 ex1
  refine lv_iinc (v := x1) (lv' := [(3, .int x1), (0, .ref o), (1, .int v1), (2, .int v2)]) hx hb dX6_toMeadow_22 hl (k := 3) rfl (by rw [ex1]; rfl) (by decide) rfl (fun ls hl => ?_)
  refine lv_goto (tgt := 2) hx hb dX6_toMeadow_25 (by decide) ?_
  exact hK2 S M v1 v2 x1 hF _ _ _ (lv_sub hl [1, 2, 3, 0] rfl) hH
set_option maxHeartbeats 4000000 in
set_option maxRecDepth 100000 in
theorem wm_toMeadow_2 {p : Program} {l : Launch} {e : Env} {s : State} {m : MethodId} {args : Array Value} {below : List Frame} {meth : Method} {c : Code} {D : va_G} {cI cZ : ClassId} {ad : Nat → Nat} {o : Nat} {Q : (Nat → Int32) → (Nat → Nat → Int32) → Prop} (X : zm_Cx p s m args meth c cX6_toMeadow 4 none D cI cZ ad o) :
    ∀ (n : Nat) (S : Nat → Int32) (M : Nat → Nat → Int32) (v1 : Int32) (v2 : Int32) (v3 : Int32), fm_toMeadow_2 Q n S M v1 v2 v3 → ∀ (H : Heap) (locs : List Loc) (ls : Array Slot), lv_has ls 4 [(0, .ref o), (1, .int v1), (2, .int v2), (3, .int v3)] → zm_H D cI cZ ad o S M s H locs → W p l e (zm_R 1) s m args below meth c H locs 0 0 (MQ below (zm_QV Q D cI cZ ad o) args s 0 0 (zm_A ad o)) (F0 m 2 ls []) := by
  have hx := X.1
  have hb := X.2.1
  intro n
  induction n with
  | zero =>
    intro S M v1 v2 v3 hF
    exact False.elim hF
  | succ n ih =>
    intro S M v1 v2 v3 hF
    intro H locs ls hl hH
    unfold fm_toMeadow_2 at hF
    refine lv_aload_n hx hb dX6_toMeadow_2 rfl (lv_at hl 0 rfl) ?_
    refine lv_iload_n hx hb dX6_toMeadow_3 rfl (lv_at hl 3 rfl) ?_
    refine lv_iload_n hx hb dX6_toMeadow_4 rfl (lv_at hl 2 rfl) ?_
    refine zm_calli (As := [.int v3, .int v2]) (rest := []) X hH (wm_isMeadowBy l D cI cZ ad o X.2.2.2.2.2.2.2.2 S M v3 v2 _ hF) (cwV 2 X.2.2.2.2.1 (lw_V q2059 q2061 qs74 q95 q2062) rfl rfl rfl (by decide +kernel) ⟨Nat.le_of_ble_eq_true rfl, Nat.le_of_ble_eq_true rfl⟩) rfl hl.1 rfl (Nat.le_of_ble_eq_true rfl) dX6_toMeadow_5 (Nat.le_refl 0) (Nat.le_refl 0) (fun r3 S1 M2 H locs hF hH => ?_)
    obtain ⟨hF, e9, e8⟩ := hF; subst e9; subst e8
    refine lv_if_eq (tgt := 22) hx hb dX6_toMeadow_8 (by decide) (fun cd => ?_) (fun cd => ?_)
    · have hF := hF.1 cd
      exact wm_toMeadow_22 X ih S M v1 v2 v3 hF _ _ _ (lv_sub hl [0, 1, 2, 3] rfl) hH
    · have hF := hF.2 cd
      refine lv_aload_n hx hb dX6_toMeadow_11 rfl (lv_at hl 0 rfl) ?_
      refine zm_getf X hH 26 (by decide) rfl q1739 dX6_toMeadow_12 ?_
      refine lv_iload_n hx hb dX6_toMeadow_15 rfl (lv_at hl 3 rfl) ?_
      obtain ⟨hI, hF⟩ := hF
      refine zm_iald X hH 26 (by decide) rfl (n := 150) rfl hI dX6_toMeadow_16 ?_
      refine lv_bipush (v := 40) hx hb dX6_toMeadow_17 (by decide) ?_
      refine lv_icmp_ne (tgt := 28) hx hb dX6_toMeadow_19 (by decide) (fun cd => ?_) (fun cd => ?_)
      · have hF := hF.1 cd
        refine lv_aload_n hx hb dX6_toMeadow_28 rfl (lv_at hl 0 rfl) ?_
        refine zm_getf X hH 25 (by decide) rfl q1738 dX6_toMeadow_29 ?_
        refine lv_bipush (v := 40) hx hb dX6_toMeadow_32 (by decide) ?_
        refine lv_iload_n hx hb dX6_toMeadow_34 rfl (lv_at hl 3 rfl) ?_
        refine lv_imul hx hb dX6_toMeadow_35 ?_
        refine lv_aload_n hx hb dX6_toMeadow_36 rfl (lv_at hl 0 rfl) ?_
        refine zm_getf X hH 26 (by decide) rfl q1739 dX6_toMeadow_37 ?_
        refine lv_iload_n hx hb dX6_toMeadow_40 rfl (lv_at hl 3 rfl) ?_
        obtain ⟨hI, hF⟩ := hF
        refine zm_iald X hH 26 (by decide) rfl (n := 150) rfl hI dX6_toMeadow_41 ?_
        refine lv_iadd hx hb dX6_toMeadow_42 ?_
        refine lv_iload_n hx hb dX6_toMeadow_43 rfl (lv_at hl 1 rfl) ?_
        obtain ⟨hI, hF⟩ := hF
        refine zm_iast X hH 25 (by decide) rfl (n := 6000) rfl hI dX6_toMeadow_44 (fun M4 H locs eM4 hH => ?_)
        have hF := hF M4 eM4
        refine lv_aload_n hx hb dX6_toMeadow_45 rfl (lv_at hl 0 rfl) ?_
        refine zm_getf X hH 26 (by decide) rfl q1739 dX6_toMeadow_46 ?_
        refine lv_iload_n hx hb dX6_toMeadow_49 rfl (lv_at hl 3 rfl) ?_
        refine lv_dup2_11 hx hb dX6_toMeadow_50 rfl rfl ?_
        obtain ⟨hI, hF⟩ := hF
        refine zm_iald X hH 26 (by decide) rfl (n := 150) rfl hI dX6_toMeadow_51 ?_
        refine lv_iconst (v := 1) hx hb dX6_toMeadow_52 (by decide) ?_
        refine lv_iadd hx hb dX6_toMeadow_53 ?_
        obtain ⟨hI, hF⟩ := hF
        refine zm_iast X hH 26 (by decide) rfl (n := 150) rfl hI dX6_toMeadow_54 (fun M5 H locs eM5 hH => ?_)
        have hF := hF M5 eM5
        refine lv_aload_n hx hb dX6_toMeadow_55 rfl (lv_at hl 0 rfl) ?_
        refine zm_getf X hH 31 (by decide) rfl q1744 dX6_toMeadow_56 ?_
        refine lv_iload_n hx hb dX6_toMeadow_59 rfl (lv_at hl 1 rfl) ?_
        refine lv_iload_n hx hb dX6_toMeadow_60 rfl (lv_at hl 3 rfl) ?_
        obtain ⟨hI, hF⟩ := hF
        refine zm_iast X hH 31 (by decide) rfl (n := 150) rfl hI dX6_toMeadow_61 (fun M6 H locs eM6 hH => ?_)
        have hF := hF M6 eM6
        refine lv_aload_n hx hb dX6_toMeadow_62 rfl (lv_at hl 0 rfl) ?_
        refine zm_getf X hH 32 (by decide) rfl q1745 dX6_toMeadow_63 ?_
        refine lv_iload_n hx hb dX6_toMeadow_66 rfl (lv_at hl 1 rfl) ?_
        refine lv_iconst (v := 0) hx hb dX6_toMeadow_67 (by decide) ?_
        obtain ⟨hI, hF⟩ := hF
        refine zm_iast X hH 32 (by decide) rfl (n := 150) rfl hI dX6_toMeadow_68 (fun M7 H locs eM7 hH => ?_)
        have hF := hF M7 eM7
        refine lv_aload_n hx hb dX6_toMeadow_69 rfl (lv_at hl 0 rfl) ?_
        refine zm_getf X hH 33 (by decide) rfl q1746 dX6_toMeadow_70 ?_
        refine lv_iload_n hx hb dX6_toMeadow_73 rfl (lv_at hl 1 rfl) ?_
        refine lv_iconst (v := 0) hx hb dX6_toMeadow_74 (by decide) ?_
        obtain ⟨hI, hF⟩ := hF
        refine zm_iast X hH 33 (by decide) rfl (n := 150) rfl hI dX6_toMeadow_75 (fun M8 H locs eM8 hH => ?_)
        have hF := hF M8 eM8
        refine lv_aload_n hx hb dX6_toMeadow_76 rfl (lv_at hl 0 rfl) ?_
        refine lv_iload_n hx hb dX6_toMeadow_77 rfl (lv_at hl 1 rfl) ?_
        refine lv_iload_n hx hb dX6_toMeadow_78 rfl (lv_at hl 3 rfl) ?_
        refine zm_callv (As := [.int v1, .int v3]) (rest := []) X hH (wm_noteMove l D cI cZ ad o X.2.2.2.2.2.2.2.2 S M8 v1 v3 _ hF) (cwV 2 X.2.2.2.2.1 (lw_V q2047 q2049 qs71 q95 q2050) rfl rfl rfl (by decide +kernel) ⟨Nat.le_of_ble_eq_true rfl, Nat.le_of_ble_eq_true rfl⟩) rfl hl.1 rfl (Nat.le_of_ble_eq_true rfl) dX6_toMeadow_79 (Nat.le_refl 0) (Nat.le_refl 0) (fun S9 M10 H locs hF hH => ?_)
        exact zm_vret X hH hF dX6_toMeadow_82
      · have hF := hF.2 cd
        exact wm_toMeadow_22 X ih S M v1 v2 v3 hF _ _ _ (lv_sub hl [0, 1, 2, 3] rfl) hH
set_option maxHeartbeats 4000000 in
set_option maxRecDepth 100000 in
/-- toMeadow: what the bytecode asks is what its run needs -/
theorem wm_toMeadow (l : Launch) (D : va_G) (cI cZ : ClassId) (ad : Nat → Nat) (o : Nat) (hAd : zm_Ad ad o) (S : Nat → Int32) (M : Nat → Nat → Int32) (v1 : Int32) (v2 : Int32) (Q : (Nat → Int32) → (Nat → Nat → Int32) → Prop) (hF : fm_toMeadow S M v1 v2 Q) :
    zm_Mv l yX6_toMeadow (ws_ yX6_toMeadow cX6_toMeadow 4 none) 1 D cI cZ ad o [.int v1, .int v2] S M Q := by
  refine zm_ofv rfl hAd (Nat.le_of_ble_eq_true rfl) ?_
  intro p e s m args below meth c H locs ls X hH hl
  have hx := X.1
  have hb := X.2.1
  have hl : lv_has ls 4 [(0, .ref o), (1, .int v1), (2, .int v2)] := hl
  unfold fm_toMeadow at hF
  refine lv_iconst (v := 0) hx hb dX6_toMeadow_0 (by decide) ?_
  refine lv_istore_n (lv' := [(3, .int 0), (0, .ref o), (1, .int v1), (2, .int v2)]) hx hb dX6_toMeadow_1 rfl hl (by decide) rfl (fun ls hl => ?_)
  obtain ⟨n9, hF⟩ := hF
  exact wm_toMeadow_2 X n9 S M v1 v2 0 hF _ _ _ (lv_sub hl [1, 2, 3, 0] rfl) hH
set_option maxHeartbeats 4000000 in
set_option maxRecDepth 100000 in
theorem wm_actClear_270 {p : Program} {l : Launch} {e : Env} {s : State} {m : MethodId} {args : Array Value} {below : List Frame} {meth : Method} {c : Code} {D : va_G} {cI cZ : ClassId} {ad : Nat → Nat} {o : Nat} {Q : Int32 → (Nat → Int32) → (Nat → Nat → Int32) → Prop} (X : zm_Cx p s m args meth c cX6_actClear 6 (some .int) D cI cZ ad o) :
    ∀ (n : Nat) (S : Nat → Int32) (M : Nat → Nat → Int32) (v1 : Int32) (v2 : Int32) (v4 : Int32), fm_actClear_270 Q n S M v1 v2 v4 → ∀ (H : Heap) (locs : List Loc) (ls : Array Slot), lv_has ls 6 [(0, .ref o), (1, .int v1), (2, .int v2), (4, .int v4)] → zm_H D cI cZ ad o S M s H locs → W p l e (zm_R 2) s m args below meth c H locs 0 0 (MQ below (zm_QS Q D cI cZ ad o) args s 0 0 (zm_A ad o)) (F0 m 270 ls []) := by
  have hx := X.1
  have hb := X.2.1
  intro n
  induction n with
  | zero =>
    intro S M v1 v2 v4 hF
    exact False.elim hF
  | succ n ih =>
    intro S M v1 v2 v4 hF
    intro H locs ls hl hH
    unfold fm_actClear_270 at hF
    refine lv_iload hx hb dX6_actClear_270 (lv_at hl 3 rfl) ?_
    refine lv_aload_n hx hb dX6_actClear_272 rfl (lv_at hl 0 rfl) ?_
    refine zm_getf X hH 17 (by decide) rfl q1730 dX6_actClear_273 ?_
    refine lv_iload_n hx hb dX6_actClear_276 rfl (lv_at hl 1 rfl) ?_
    obtain ⟨hI, hF⟩ := hF
    refine zm_iald X hH 17 (by decide) rfl (n := 150) rfl hI dX6_actClear_277 ?_
    refine lv_aload_n hx hb dX6_actClear_278 rfl (lv_at hl 0 rfl) ?_
    refine zm_getf X hH 18 (by decide) rfl q1731 dX6_actClear_279 ?_
    refine lv_iload_n hx hb dX6_actClear_282 rfl (lv_at hl 1 rfl) ?_
    obtain ⟨hI, hF⟩ := hF
    refine zm_iald X hH 18 (by decide) rfl (n := 150) rfl hI dX6_actClear_283 ?_
    refine lv_iadd hx hb dX6_actClear_284 ?_
    refine lv_icmp_ge (tgt := 312) hx hb dX6_actClear_285 (by decide) (fun cd => ?_) (fun cd => ?_)
    · have hF := hF.1 cd
      refine lv_iload_n hx hb dX6_actClear_312 rfl (lv_at hl 2 rfl) ?_
      exact zm_iret X hH rfl rfl hF dX6_actClear_313
    · have hF := hF.2 cd
      refine lv_aload_n hx hb dX6_actClear_288 rfl (lv_at hl 0 rfl) ?_
      refine zm_getf X hH 8 (by decide) rfl q1721 dX6_actClear_289 ?_
      refine lv_bipush (v := 30) hx hb dX6_actClear_292 (by decide) ?_
      refine lv_aload_n hx hb dX6_actClear_294 rfl (lv_at hl 0 rfl) ?_
      refine zm_getf X hH 16 (by decide) rfl q1729 dX6_actClear_295 ?_
      refine lv_iload_n hx hb dX6_actClear_298 rfl (lv_at hl 1 rfl) ?_
      obtain ⟨hI, hF⟩ := hF
      refine zm_iald X hH 16 (by decide) rfl (n := 150) rfl hI dX6_actClear_299 ?_
      refine lv_imul hx hb dX6_actClear_300 ?_
      refine lv_iload hx hb dX6_actClear_301 (lv_at hl 3 rfl) ?_
      refine lv_iadd hx hb dX6_actClear_303 ?_
      refine lv_iconst (v := 0) hx hb dX6_actClear_304 (by decide) ?_
      obtain ⟨hI, hF⟩ := hF
      refine zm_iast X hH 8 (by decide) rfl (n := 2880) rfl hI dX6_actClear_305 (fun M1 H locs eM1 hH => ?_)
      have hF := hF M1 eM1
      obtain ⟨x2, ex2⟩ : ∃ z : Int32, z = v4 + 1 := ⟨_, rfl⟩
      have hF := hF x2 ex2
      refine lv_iinc (v := x2) (lv' := [(4, .int x2), (0, .ref o), (1, .int v1), (2, .int v2)]) hx hb dX6_actClear_306 hl (k := 3) rfl (by rw [ex2]; rfl) (by decide) rfl (fun ls hl => ?_)
      refine lv_goto (tgt := 270) hx hb dX6_actClear_309 (by decide) ?_
      exact ih S M1 v1 v2 x2 hF _ _ _ (lv_sub hl [1, 2, 3, 0] rfl) hH
set_option maxHeartbeats 4000000 in
set_option maxRecDepth 100000 in
theorem wm_actClear_249 {p : Program} {l : Launch} {e : Env} {s : State} {m : MethodId} {args : Array Value} {below : List Frame} {meth : Method} {c : Code} {D : va_G} {cI cZ : ClassId} {ad : Nat → Nat} {o : Nat} {Q : Int32 → (Nat → Int32) → (Nat → Nat → Int32) → Prop} {K200 : (Nat → Int32) → (Nat → Nat → Int32) → Int32 → Int32 → Int32 → Prop} (X : zm_Cx p s m args meth c cX6_actClear 6 (some .int) D cI cZ ad o) (hK200 : ∀ (S : Nat → Int32) (M : Nat → Nat → Int32) (v1 : Int32) (v2 : Int32) (v4 : Int32), K200 S M v1 v2 v4 → ∀ (H : Heap) (locs : List Loc) (ls : Array Slot), lv_has ls 6 [(0, .ref o), (1, .int v1), (2, .int v2), (4, .int v4)] → zm_H D cI cZ ad o S M s H locs → W p l e (zm_R 2) s m args below meth c H locs 0 0 (MQ below (zm_QS Q D cI cZ ad o) args s 0 0 (zm_A ad o)) (F0 m 200 ls [])) :
    ∀ (S : Nat → Int32) (M : Nat → Nat → Int32) (v1 : Int32) (v2 : Int32) (v4 : Int32), fm_actClear_249 Q K200 S M v1 v2 v4 → ∀ (H : Heap) (locs : List Loc) (ls : Array Slot), lv_has ls 6 [(0, .ref o), (1, .int v1), (2, .int v2), (4, .int v4)] → zm_H D cI cZ ad o S M s H locs → W p l e (zm_R 2) s m args below meth c H locs 0 0 (MQ below (zm_QS Q D cI cZ ad o) args s 0 0 (zm_A ad o)) (F0 m 249 ls []) := by
  have hx := X.1
  have hb := X.2.1
  intro S M v1 v2 v4 hF
  intro H locs ls hl hH
  unfold fm_actClear_249 at hF
  obtain ⟨x1, ex1⟩ : ∃ z : Int32, z = v4 + 1 := ⟨_, rfl⟩
  have hF := hF x1 ex1
  refine lv_iinc (v := x1) (lv' := [(4, .int x1), (0, .ref o), (1, .int v1), (2, .int v2)]) hx hb dX6_actClear_249 hl (k := 3) rfl (by rw [ex1]; rfl) (by decide) rfl (fun ls hl => ?_)
  refine lv_goto (tgt := 200) hx hb dX6_actClear_252 (by decide) ?_
  exact hK200 S M v1 v2 x1 hF _ _ _ (lv_sub hl [1, 2, 3, 0] rfl) hH
set_option maxHeartbeats 4000000 in
set_option maxRecDepth 100000 in
theorem wm_actClear_200 {p : Program} {l : Launch} {e : Env} {s : State} {m : MethodId} {args : Array Value} {below : List Frame} {meth : Method} {c : Code} {D : va_G} {cI cZ : ClassId} {ad : Nat → Nat} {o : Nat} {Q : Int32 → (Nat → Int32) → (Nat → Nat → Int32) → Prop} (X : zm_Cx p s m args meth c cX6_actClear 6 (some .int) D cI cZ ad o) :
    ∀ (n : Nat) (S : Nat → Int32) (M : Nat → Nat → Int32) (v1 : Int32) (v2 : Int32) (v4 : Int32), fm_actClear_200 Q n S M v1 v2 v4 → ∀ (H : Heap) (locs : List Loc) (ls : Array Slot), lv_has ls 6 [(0, .ref o), (1, .int v1), (2, .int v2), (4, .int v4)] → zm_H D cI cZ ad o S M s H locs → W p l e (zm_R 2) s m args below meth c H locs 0 0 (MQ below (zm_QS Q D cI cZ ad o) args s 0 0 (zm_A ad o)) (F0 m 200 ls []) := by
  have hx := X.1
  have hb := X.2.1
  intro n
  induction n with
  | zero =>
    intro S M v1 v2 v4 hF
    exact False.elim hF
  | succ n ih =>
    intro S M v1 v2 v4 hF
    intro H locs ls hl hH
    unfold fm_actClear_200 at hF
    refine lv_iload hx hb dX6_actClear_200 (lv_at hl 3 rfl) ?_
    refine lv_aload_n hx hb dX6_actClear_202 rfl (lv_at hl 0 rfl) ?_
    refine zm_getf X hH 27 (by decide) rfl q1740 dX6_actClear_203 ?_
    refine lv_icmp_ge (tgt := 255) hx hb dX6_actClear_206 (by decide) (fun cd => ?_) (fun cd => ?_)
    · have hF := hF.1 cd
      refine lv_aload_n hx hb dX6_actClear_255 rfl (lv_at hl 0 rfl) ?_
      refine zm_getf X hH 11 (by decide) rfl q1724 dX6_actClear_256 ?_
      refine lv_iload_n hx hb dX6_actClear_259 rfl (lv_at hl 1 rfl) ?_
      refine lv_iconst (v := 4) hx hb dX6_actClear_260 (by decide) ?_
      obtain ⟨hI, hF⟩ := hF
      refine zm_iast X hH 11 (by decide) rfl (n := 150) rfl hI dX6_actClear_261 (fun M1 H locs eM1 hH => ?_)
      have hF := hF M1 eM1
      refine lv_aload_n hx hb dX6_actClear_262 rfl (lv_at hl 0 rfl) ?_
      refine zm_getf X hH 17 (by decide) rfl q1730 dX6_actClear_263 ?_
      refine lv_iload_n hx hb dX6_actClear_266 rfl (lv_at hl 1 rfl) ?_
      obtain ⟨hI, hF⟩ := hF
      refine zm_iald X hH 17 (by decide) rfl (n := 150) rfl hI dX6_actClear_267 ?_
      refine lv_topi (fun x2 ex2 => ?_)
      have hF := hF x2 ex2
      refine lv_istore (lv' := [(4, .int x2), (0, .ref o), (1, .int v1), (2, .int v2)]) hx hb dX6_actClear_268 hl (by decide) rfl (fun ls hl => ?_)
      obtain ⟨n9, hF⟩ := hF
      exact wm_actClear_270 X n9 S M1 v1 v2 x2 hF _ _ _ (lv_sub hl [1, 2, 3, 0] rfl) hH
    · have hF := hF.2 cd
      refine lv_aload_n hx hb dX6_actClear_209 rfl (lv_at hl 0 rfl) ?_
      refine zm_getf X hH 30 (by decide) rfl q1743 dX6_actClear_210 ?_
      refine lv_iload hx hb dX6_actClear_213 (lv_at hl 3 rfl) ?_
      obtain ⟨hI, hF⟩ := hF
      refine zm_iald X hH 30 (by decide) rfl (n := 150) rfl hI dX6_actClear_215 ?_
      refine lv_iconst (v := 2) hx hb dX6_actClear_216 (by decide) ?_
      refine lv_icmp_ne (tgt := 249) hx hb dX6_actClear_217 (by decide) (fun cd => ?_) (fun cd => ?_)
      · have hF := hF.1 cd
        exact wm_actClear_249 X ih S M v1 v2 v4 hF _ _ _ (lv_sub hl [0, 1, 2, 3] rfl) hH
      · have hF := hF.2 cd
        refine lv_aload_n hx hb dX6_actClear_220 rfl (lv_at hl 0 rfl) ?_
        refine zm_getf X hH 31 (by decide) rfl q1744 dX6_actClear_221 ?_
        refine lv_iload hx hb dX6_actClear_224 (lv_at hl 3 rfl) ?_
        obtain ⟨hI, hF⟩ := hF
        refine zm_iald X hH 31 (by decide) rfl (n := 150) rfl hI dX6_actClear_226 ?_
        refine lv_iload_n hx hb dX6_actClear_227 rfl (lv_at hl 1 rfl) ?_
        refine lv_icmp_eq (tgt := 234) hx hb dX6_actClear_228 (by decide) (fun cd => ?_) (fun cd => ?_)
        · have hF := hF.1 cd
          refine lv_aload_n hx hb dX6_actClear_234 rfl (lv_at hl 0 rfl) ?_
          refine zm_getf X hH 30 (by decide) rfl q1743 dX6_actClear_235 ?_
          refine lv_iload hx hb dX6_actClear_238 (lv_at hl 3 rfl) ?_
          refine lv_iconst (v := 3) hx hb dX6_actClear_240 (by decide) ?_
          obtain ⟨hI, hF⟩ := hF
          refine zm_iast X hH 30 (by decide) rfl (n := 150) rfl hI dX6_actClear_241 (fun M3 H locs eM3 hH => ?_)
          have hF := hF M3 eM3
          refine lv_aload_n hx hb dX6_actClear_242 rfl (lv_at hl 0 rfl) ?_
          refine lv_iload hx hb dX6_actClear_243 (lv_at hl 3 rfl) ?_
          refine lv_iconst (v := (-1)) hx hb dX6_actClear_245 (by decide) ?_
          refine zm_callv (As := [.int v4, .int (-1)]) (rest := []) X hH (wm_noteMove l D cI cZ ad o X.2.2.2.2.2.2.2.2 S M3 v4 (-1) _ hF) (cwV 2 X.2.2.2.2.1 (lw_V q2047 q2049 qs71 q95 q2050) rfl rfl rfl (by decide +kernel) ⟨Nat.le_of_ble_eq_true rfl, Nat.le_of_ble_eq_true rfl⟩) rfl hl.1 rfl (Nat.le_of_ble_eq_true rfl) dX6_actClear_246 (Nat.le_refl 0) (Nat.le_refl 0) (fun S4 M5 H locs hF hH => ?_)
          exact wm_actClear_249 X ih S4 M5 v1 v2 v4 hF _ _ _ (lv_sub hl [0, 1, 2, 3] rfl) hH
        · have hF := hF.2 cd
          refine lv_goto (tgt := 249) hx hb dX6_actClear_231 (by decide) ?_
          exact wm_actClear_249 X ih S M v1 v2 v4 hF _ _ _ (lv_sub hl [0, 1, 2, 3] rfl) hH
set_option maxHeartbeats 4000000 in
set_option maxRecDepth 100000 in
theorem wm_actClear_191 {p : Program} {l : Launch} {e : Env} {s : State} {m : MethodId} {args : Array Value} {below : List Frame} {meth : Method} {c : Code} {D : va_G} {cI cZ : ClassId} {ad : Nat → Nat} {o : Nat} {Q : Int32 → (Nat → Int32) → (Nat → Nat → Int32) → Prop} {K142 : (Nat → Int32) → (Nat → Nat → Int32) → Int32 → Int32 → Int32 → Prop} (X : zm_Cx p s m args meth c cX6_actClear 6 (some .int) D cI cZ ad o) (hK142 : ∀ (S : Nat → Int32) (M : Nat → Nat → Int32) (v1 : Int32) (v2 : Int32) (v4 : Int32), K142 S M v1 v2 v4 → ∀ (H : Heap) (locs : List Loc) (ls : Array Slot), lv_has ls 6 [(0, .ref o), (1, .int v1), (2, .int v2), (4, .int v4)] → zm_H D cI cZ ad o S M s H locs → W p l e (zm_R 2) s m args below meth c H locs 0 0 (MQ below (zm_QS Q D cI cZ ad o) args s 0 0 (zm_A ad o)) (F0 m 142 ls [])) :
    ∀ (S : Nat → Int32) (M : Nat → Nat → Int32) (v1 : Int32) (v2 : Int32) (v4 : Int32), fm_actClear_191 Q K142 S M v1 v2 v4 → ∀ (H : Heap) (locs : List Loc) (ls : Array Slot), lv_has ls 6 [(0, .ref o), (1, .int v1), (2, .int v2), (4, .int v4)] → zm_H D cI cZ ad o S M s H locs → W p l e (zm_R 2) s m args below meth c H locs 0 0 (MQ below (zm_QS Q D cI cZ ad o) args s 0 0 (zm_A ad o)) (F0 m 191 ls []) := by
  have hx := X.1
  have hb := X.2.1
  intro S M v1 v2 v4 hF
  intro H locs ls hl hH
  unfold fm_actClear_191 at hF
  obtain ⟨x1, ex1⟩ : ∃ z : Int32, z = v4 + 1 := ⟨_, rfl⟩
  have hF := hF x1 ex1
  refine lv_iinc (v := x1) (lv' := [(4, .int x1), (0, .ref o), (1, .int v1), (2, .int v2)]) hx hb dX6_actClear_191 hl (k := 3) rfl (by rw [ex1]; rfl) (by decide) rfl (fun ls hl => ?_)
  refine lv_goto (tgt := 142) hx hb dX6_actClear_194 (by decide) ?_
  exact hK142 S M v1 v2 x1 hF _ _ _ (lv_sub hl [1, 2, 3, 0] rfl) hH
set_option maxHeartbeats 4000000 in
set_option maxRecDepth 100000 in
theorem wm_actClear_142 {p : Program} {l : Launch} {e : Env} {s : State} {m : MethodId} {args : Array Value} {below : List Frame} {meth : Method} {c : Code} {D : va_G} {cI cZ : ClassId} {ad : Nat → Nat} {o : Nat} {Q : Int32 → (Nat → Int32) → (Nat → Nat → Int32) → Prop} (X : zm_Cx p s m args meth c cX6_actClear 6 (some .int) D cI cZ ad o) :
    ∀ (n : Nat) (S : Nat → Int32) (M : Nat → Nat → Int32) (v1 : Int32) (v2 : Int32) (v4 : Int32), fm_actClear_142 Q n S M v1 v2 v4 → ∀ (H : Heap) (locs : List Loc) (ls : Array Slot), lv_has ls 6 [(0, .ref o), (1, .int v1), (2, .int v2), (4, .int v4)] → zm_H D cI cZ ad o S M s H locs → W p l e (zm_R 2) s m args below meth c H locs 0 0 (MQ below (zm_QS Q D cI cZ ad o) args s 0 0 (zm_A ad o)) (F0 m 142 ls []) := by
  have hx := X.1
  have hb := X.2.1
  intro n
  induction n with
  | zero =>
    intro S M v1 v2 v4 hF
    exact False.elim hF
  | succ n ih =>
    intro S M v1 v2 v4 hF
    intro H locs ls hl hH
    unfold fm_actClear_142 at hF
    refine lv_iload hx hb dX6_actClear_142 (lv_at hl 3 rfl) ?_
    refine lv_aload_n hx hb dX6_actClear_144 rfl (lv_at hl 0 rfl) ?_
    refine lv_iload_n hx hb dX6_actClear_145 rfl (lv_at hl 1 rfl) ?_
    refine zm_calli (As := [.int v1]) (rest := [.int v4]) X hH (wm_columns l D cI cZ ad o X.2.2.2.2.2.2.2.2 S M v1 _ hF) (cwV 1 X.2.2.2.2.1 (lw_V q2015 q2017 qs63 q95 q2018) rfl rfl rfl (by decide +kernel) ⟨Nat.le_of_ble_eq_true rfl, Nat.le_of_ble_eq_true rfl⟩) rfl hl.1 rfl (Nat.le_of_ble_eq_true rfl) dX6_actClear_146 (Nat.le_refl 0) (Nat.le_refl 0) (fun r3 S1 M2 H locs hF hH => ?_)
    obtain ⟨hF, e9, e8⟩ := hF; subst e9; subst e8
    refine lv_icmp_ge (tgt := 197) hx hb dX6_actClear_149 (by decide) (fun cd => ?_) (fun cd => ?_)
    · have hF := hF.1 cd
      refine lv_iconst (v := 0) hx hb dX6_actClear_197 (by decide) ?_
      refine lv_istore (lv' := [(4, .int 0), (0, .ref o), (1, .int v1), (2, .int v2)]) hx hb dX6_actClear_198 hl (by decide) rfl (fun ls hl => ?_)
      obtain ⟨n9, hF⟩ := hF
      exact wm_actClear_200 X n9 S M v1 v2 0 hF _ _ _ (lv_sub hl [1, 2, 3, 0] rfl) hH
    · have hF := hF.2 cd
      refine lv_aload_n hx hb dX6_actClear_152 rfl (lv_at hl 0 rfl) ?_
      refine zm_getf X hH 24 (by decide) rfl q1737 dX6_actClear_153 ?_
      refine lv_bipush (v := 8) hx hb dX6_actClear_156 (by decide) ?_
      refine lv_iload_n hx hb dX6_actClear_158 rfl (lv_at hl 1 rfl) ?_
      refine lv_imul hx hb dX6_actClear_159 ?_
      refine lv_iconst (v := 2) hx hb dX6_actClear_160 (by decide) ?_
      refine lv_iload hx hb dX6_actClear_161 (lv_at hl 3 rfl) ?_
      refine lv_imul hx hb dX6_actClear_163 ?_
      refine lv_iadd hx hb dX6_actClear_164 ?_
      obtain ⟨hI, hF⟩ := hF
      refine zm_iald X hH 24 (by decide) rfl (n := 1200) rfl hI dX6_actClear_165 ?_
      refine lv_topi (fun x4 ex4 => ?_)
      have hF := hF x4 ex4
      refine lv_istore (lv' := [(5, .int x4), (0, .ref o), (1, .int v1), (2, .int v2), (4, .int v4)]) hx hb dX6_actClear_166 hl (by decide) rfl (fun ls hl => ?_)
      refine lv_iload hx hb dX6_actClear_168 (lv_at hl 0 rfl) ?_
      refine lv_if_lt (tgt := 191) hx hb dX6_actClear_170 (by decide) (fun cd => ?_) (fun cd => ?_)
      · have hF := hF.1 cd
        exact wm_actClear_191 X ih S M v1 v2 v4 hF _ _ _ (lv_sub hl [1, 2, 3, 4] rfl) hH
      · have hF := hF.2 cd
        refine lv_aload_n hx hb dX6_actClear_173 rfl (lv_at hl 1 rfl) ?_
        refine zm_getf X hH 35 (by decide) rfl q1748 dX6_actClear_174 ?_
        refine lv_iload hx hb dX6_actClear_177 (lv_at hl 0 rfl) ?_
        obtain ⟨hI, hF⟩ := hF
        refine zm_iald X hH 35 (by decide) rfl (n := 150) rfl hI dX6_actClear_179 ?_
        refine lv_iconst (v := 1) hx hb dX6_actClear_180 (by decide) ?_
        refine lv_icmp_ne (tgt := 191) hx hb dX6_actClear_181 (by decide) (fun cd => ?_) (fun cd => ?_)
        · have hF := hF.1 cd
          exact wm_actClear_191 X ih S M v1 v2 v4 hF _ _ _ (lv_sub hl [1, 2, 3, 4] rfl) hH
        · have hF := hF.2 cd
          refine lv_aload_n hx hb dX6_actClear_184 rfl (lv_at hl 1 rfl) ?_
          refine lv_iload hx hb dX6_actClear_185 (lv_at hl 0 rfl) ?_
          refine lv_iload_n hx hb dX6_actClear_187 rfl (lv_at hl 2 rfl) ?_
          refine zm_callv (As := [.int x4, .int v1]) (rest := []) X hH (wm_toMeadow l D cI cZ ad o X.2.2.2.2.2.2.2.2 S M x4 v1 _ hF) (cwV 2 X.2.2.2.2.1 (lw_V q2063 q2065 qs75 q95 q2066) rfl rfl rfl (by decide +kernel) ⟨Nat.le_of_ble_eq_true rfl, Nat.le_of_ble_eq_true rfl⟩) rfl hl.1 rfl (Nat.le_of_ble_eq_true rfl) dX6_actClear_188 (Nat.le_refl 0) (Nat.le_refl 0) (fun S5 M6 H locs hF hH => ?_)
          exact wm_actClear_191 X ih S5 M6 v1 v2 v4 hF _ _ _ (lv_sub hl [1, 2, 3, 4] rfl) hH
set_option maxHeartbeats 4000000 in
set_option maxRecDepth 100000 in
theorem wm_actClear_125 {p : Program} {l : Launch} {e : Env} {s : State} {m : MethodId} {args : Array Value} {below : List Frame} {meth : Method} {c : Code} {D : va_G} {cI cZ : ClassId} {ad : Nat → Nat} {o : Nat} {Q : Int32 → (Nat → Int32) → (Nat → Nat → Int32) → Prop} {K93 : (Nat → Int32) → (Nat → Nat → Int32) → Int32 → Int32 → Int32 → Int32 → Prop} (X : zm_Cx p s m args meth c cX6_actClear 6 (some .int) D cI cZ ad o) (hK93 : ∀ (S : Nat → Int32) (M : Nat → Nat → Int32) (v1 : Int32) (v2 : Int32) (v3 : Int32) (v4 : Int32), K93 S M v1 v2 v3 v4 → ∀ (H : Heap) (locs : List Loc) (ls : Array Slot), lv_has ls 6 [(0, .ref o), (1, .int v1), (2, .int v2), (3, .int v3), (4, .int v4)] → zm_H D cI cZ ad o S M s H locs → W p l e (zm_R 2) s m args below meth c H locs 0 0 (MQ below (zm_QS Q D cI cZ ad o) args s 0 0 (zm_A ad o)) (F0 m 93 ls [])) :
    ∀ (S : Nat → Int32) (M : Nat → Nat → Int32) (v1 : Int32) (v2 : Int32) (v3 : Int32) (v4 : Int32), fm_actClear_125 Q K93 S M v1 v2 v3 v4 → ∀ (H : Heap) (locs : List Loc) (ls : Array Slot), lv_has ls 6 [(0, .ref o), (1, .int v1), (2, .int v2), (3, .int v3), (4, .int v4)] → zm_H D cI cZ ad o S M s H locs → W p l e (zm_R 2) s m args below meth c H locs 0 0 (MQ below (zm_QS Q D cI cZ ad o) args s 0 0 (zm_A ad o)) (F0 m 125 ls []) := by
  have hx := X.1
  have hb := X.2.1
  intro S M v1 v2 v3 v4 hF
  intro H locs ls hl hH
  unfold fm_actClear_125 at hF
  obtain ⟨x1, ex1⟩ : ∃ z : Int32, z = v4 + 1 := ⟨_, rfl⟩
  have hF := hF x1 ex1
  refine lv_iinc (v := x1) (lv' := [(4, .int x1), (0, .ref o), (1, .int v1), (2, .int v2), (3, .int v3)]) hx hb dX6_actClear_125 hl (k := 4) rfl (by rw [ex1]; rfl) (by decide) rfl (fun ls hl => ?_)
  refine lv_goto (tgt := 93) hx hb dX6_actClear_128 (by decide) ?_
  exact hK93 S M v1 v2 v3 x1 hF _ _ _ (lv_sub hl [1, 2, 3, 4, 0] rfl) hH
set_option maxHeartbeats 4000000 in
set_option maxRecDepth 100000 in
theorem wm_actClear_93 {p : Program} {l : Launch} {e : Env} {s : State} {m : MethodId} {args : Array Value} {below : List Frame} {meth : Method} {c : Code} {D : va_G} {cI cZ : ClassId} {ad : Nat → Nat} {o : Nat} {Q : Int32 → (Nat → Int32) → (Nat → Nat → Int32) → Prop} (X : zm_Cx p s m args meth c cX6_actClear 6 (some .int) D cI cZ ad o) :
    ∀ (n : Nat) (S : Nat → Int32) (M : Nat → Nat → Int32) (v1 : Int32) (v2 : Int32) (v3 : Int32) (v4 : Int32), fm_actClear_93 Q n S M v1 v2 v3 v4 → ∀ (H : Heap) (locs : List Loc) (ls : Array Slot), lv_has ls 6 [(0, .ref o), (1, .int v1), (2, .int v2), (3, .int v3), (4, .int v4)] → zm_H D cI cZ ad o S M s H locs → W p l e (zm_R 2) s m args below meth c H locs 0 0 (MQ below (zm_QS Q D cI cZ ad o) args s 0 0 (zm_A ad o)) (F0 m 93 ls []) := by
  have hx := X.1
  have hb := X.2.1
  intro n
  induction n with
  | zero =>
    intro S M v1 v2 v3 v4 hF
    exact False.elim hF
  | succ n ih =>
    intro S M v1 v2 v3 v4 hF
    intro H locs ls hl hH
    unfold fm_actClear_93 at hF
    refine lv_iload hx hb dX6_actClear_93 (lv_at hl 4 rfl) ?_
    refine lv_aload_n hx hb dX6_actClear_95 rfl (lv_at hl 0 rfl) ?_
    refine zm_getf X hH 9 (by decide) rfl q1722 dX6_actClear_96 ?_
    refine lv_icmp_ge (tgt := 131) hx hb dX6_actClear_99 (by decide) (fun cd => ?_) (fun cd => ?_)
    · have hF := hF.1 cd
      refine lv_iload_n hx hb dX6_actClear_131 rfl (lv_at hl 3 rfl) ?_
      refine lv_iload_n hx hb dX6_actClear_132 rfl (lv_at hl 2 rfl) ?_
      refine lv_icmp_ge (tgt := 139) hx hb dX6_actClear_133 (by decide) (fun cd => ?_) (fun cd => ?_)
      · have hF := hF.1 cd
        refine lv_iconst (v := 0) hx hb dX6_actClear_139 (by decide) ?_
        refine lv_istore (lv' := [(4, .int 0), (0, .ref o), (1, .int v1), (2, .int v2), (3, .int v3)]) hx hb dX6_actClear_140 hl (by decide) rfl (fun ls hl => ?_)
        obtain ⟨n9, hF⟩ := hF
        exact wm_actClear_142 X n9 S M v1 v2 0 hF _ _ _ (lv_sub hl [1, 2, 3, 0] rfl) hH
      · have hF := hF.2 cd
        refine lv_bipush (v := (-4)) hx hb dX6_actClear_136 (by decide) ?_
        exact zm_iret X hH rfl rfl hF dX6_actClear_138
    · have hF := hF.2 cd
      refine lv_aload_n hx hb dX6_actClear_102 rfl (lv_at hl 0 rfl) ?_
      refine lv_iload hx hb dX6_actClear_103 (lv_at hl 4 rfl) ?_
      refine lv_iload_n hx hb dX6_actClear_105 rfl (lv_at hl 1 rfl) ?_
      refine zm_calli (As := [.int v4, .int v1]) (rest := []) X hH (wm_isMeadowBy l D cI cZ ad o X.2.2.2.2.2.2.2.2 S M v4 v1 _ hF) (cwV 2 X.2.2.2.2.1 (lw_V q2059 q2061 qs74 q95 q2062) rfl rfl rfl (by decide +kernel) ⟨Nat.le_of_ble_eq_true rfl, Nat.le_of_ble_eq_true rfl⟩) rfl hl.1 rfl (Nat.le_of_ble_eq_true rfl) dX6_actClear_106 (Nat.le_refl 0) (Nat.le_refl 0) (fun r3 S1 M2 H locs hF hH => ?_)
      obtain ⟨hF, e9, e8⟩ := hF; subst e9; subst e8
      refine lv_if_eq (tgt := 125) hx hb dX6_actClear_109 (by decide) (fun cd => ?_) (fun cd => ?_)
      · have hF := hF.1 cd
        exact wm_actClear_125 X ih S M v1 v2 v3 v4 hF _ _ _ (lv_sub hl [0, 1, 2, 3, 4] rfl) hH
      · have hF := hF.2 cd
        refine lv_iload_n hx hb dX6_actClear_112 rfl (lv_at hl 3 rfl) ?_
        refine lv_bipush (v := 40) hx hb dX6_actClear_113 (by decide) ?_
        refine lv_aload_n hx hb dX6_actClear_115 rfl (lv_at hl 0 rfl) ?_
        refine zm_getf X hH 26 (by decide) rfl q1739 dX6_actClear_116 ?_
        refine lv_iload hx hb dX6_actClear_119 (lv_at hl 4 rfl) ?_
        obtain ⟨hI, hF⟩ := hF
        refine zm_iald X hH 26 (by decide) rfl (n := 150) rfl hI dX6_actClear_121 ?_
        refine lv_isub hx hb dX6_actClear_122 ?_
        refine lv_iadd hx hb dX6_actClear_123 ?_
        refine lv_topi (fun x4 ex4 => ?_)
        have hF := hF x4 ex4
        refine lv_istore_n (lv' := [(3, .int x4), (0, .ref o), (1, .int v1), (2, .int v2), (4, .int v4)]) hx hb dX6_actClear_124 rfl hl (by decide) rfl (fun ls hl => ?_)
        exact wm_actClear_125 X ih S M v1 v2 x4 v4 hF _ _ _ (lv_sub hl [1, 2, 3, 0, 4] rfl) hH
set_option maxHeartbeats 4000000 in
set_option maxRecDepth 100000 in
theorem wm_actClear_82 {p : Program} {l : Launch} {e : Env} {s : State} {m : MethodId} {args : Array Value} {below : List Frame} {meth : Method} {c : Code} {D : va_G} {cI cZ : ClassId} {ad : Nat → Nat} {o : Nat} {Q : Int32 → (Nat → Int32) → (Nat → Nat → Int32) → Prop} {K27 : (Nat → Int32) → (Nat → Nat → Int32) → Int32 → Int32 → Int32 → Prop} (X : zm_Cx p s m args meth c cX6_actClear 6 (some .int) D cI cZ ad o) (hK27 : ∀ (S : Nat → Int32) (M : Nat → Nat → Int32) (v1 : Int32) (v2 : Int32) (v3 : Int32), K27 S M v1 v2 v3 → ∀ (H : Heap) (locs : List Loc) (ls : Array Slot), lv_has ls 6 [(0, .ref o), (1, .int v1), (2, .int v2), (3, .int v3)] → zm_H D cI cZ ad o S M s H locs → W p l e (zm_R 2) s m args below meth c H locs 0 0 (MQ below (zm_QS Q D cI cZ ad o) args s 0 0 (zm_A ad o)) (F0 m 27 ls [])) :
    ∀ (S : Nat → Int32) (M : Nat → Nat → Int32) (v1 : Int32) (v2 : Int32) (v3 : Int32), fm_actClear_82 Q K27 S M v1 v2 v3 → ∀ (H : Heap) (locs : List Loc) (ls : Array Slot), lv_has ls 6 [(0, .ref o), (1, .int v1), (2, .int v2), (3, .int v3)] → zm_H D cI cZ ad o S M s H locs → W p l e (zm_R 2) s m args below meth c H locs 0 0 (MQ below (zm_QS Q D cI cZ ad o) args s 0 0 (zm_A ad o)) (F0 m 82 ls []) := by
  have hx := X.1
  have hb := X.2.1
  intro S M v1 v2 v3 hF
  intro H locs ls hl hH
  unfold fm_actClear_82 at hF
  obtain ⟨x1, ex1⟩ : ∃ z : Int32, z = v3 + 1 := ⟨_, rfl⟩
  have hF := hF x1 ex1
  refine lv_iinc (v := x1) (lv' := [(3, .int x1), (0, .ref o), (1, .int v1), (2, .int v2)]) hx hb dX6_actClear_82 hl (k := 3) rfl (by rw [ex1]; rfl) (by decide) rfl (fun ls hl => ?_)
  refine lv_goto (tgt := 27) hx hb dX6_actClear_85 (by decide) ?_
  exact hK27 S M v1 v2 x1 hF _ _ _ (lv_sub hl [1, 2, 3, 0] rfl) hH
set_option maxHeartbeats 4000000 in
set_option maxRecDepth 100000 in
theorem wm_actClear_27 {p : Program} {l : Launch} {e : Env} {s : State} {m : MethodId} {args : Array Value} {below : List Frame} {meth : Method} {c : Code} {D : va_G} {cI cZ : ClassId} {ad : Nat → Nat} {o : Nat} {Q : Int32 → (Nat → Int32) → (Nat → Nat → Int32) → Prop} (X : zm_Cx p s m args meth c cX6_actClear 6 (some .int) D cI cZ ad o) :
    ∀ (n : Nat) (S : Nat → Int32) (M : Nat → Nat → Int32) (v1 : Int32) (v2 : Int32) (v3 : Int32), fm_actClear_27 Q n S M v1 v2 v3 → ∀ (H : Heap) (locs : List Loc) (ls : Array Slot), lv_has ls 6 [(0, .ref o), (1, .int v1), (2, .int v2), (3, .int v3)] → zm_H D cI cZ ad o S M s H locs → W p l e (zm_R 2) s m args below meth c H locs 0 0 (MQ below (zm_QS Q D cI cZ ad o) args s 0 0 (zm_A ad o)) (F0 m 27 ls []) := by
  have hx := X.1
  have hb := X.2.1
  intro n
  induction n with
  | zero =>
    intro S M v1 v2 v3 hF
    exact False.elim hF
  | succ n ih =>
    intro S M v1 v2 v3 hF
    intro H locs ls hl hH
    unfold fm_actClear_27 at hF
    refine lv_iload_n hx hb dX6_actClear_27 rfl (lv_at hl 3 rfl) ?_
    refine lv_aload_n hx hb dX6_actClear_28 rfl (lv_at hl 0 rfl) ?_
    refine zm_getf X hH 27 (by decide) rfl q1740 dX6_actClear_29 ?_
    refine lv_icmp_ge (tgt := 88) hx hb dX6_actClear_32 (by decide) (fun cd => ?_) (fun cd => ?_)
    · have hF := hF.1 cd
      refine lv_iconst (v := 0) hx hb dX6_actClear_88 (by decide) ?_
      refine lv_istore_n (lv' := [(3, .int 0), (0, .ref o), (1, .int v1), (2, .int v2)]) hx hb dX6_actClear_89 rfl hl (by decide) rfl (fun ls hl => ?_)
      refine lv_iconst (v := 0) hx hb dX6_actClear_90 (by decide) ?_
      refine lv_istore (lv' := [(4, .int 0), (3, .int 0), (0, .ref o), (1, .int v1), (2, .int v2)]) hx hb dX6_actClear_91 hl (by decide) rfl (fun ls hl => ?_)
      obtain ⟨n9, hF⟩ := hF
      exact wm_actClear_93 X n9 S M v1 v2 0 0 hF _ _ _ (lv_sub hl [2, 3, 4, 1, 0] rfl) hH
    · have hF := hF.2 cd
      refine lv_aload_n hx hb dX6_actClear_35 rfl (lv_at hl 0 rfl) ?_
      refine zm_getf X hH 30 (by decide) rfl q1743 dX6_actClear_36 ?_
      refine lv_iload_n hx hb dX6_actClear_39 rfl (lv_at hl 3 rfl) ?_
      obtain ⟨hI, hF⟩ := hF
      refine zm_iald X hH 30 (by decide) rfl (n := 150) rfl hI dX6_actClear_40 ?_
      refine lv_iconst (v := 2) hx hb dX6_actClear_41 (by decide) ?_
      refine lv_icmp_ne (tgt := 82) hx hb dX6_actClear_42 (by decide) (fun cd => ?_) (fun cd => ?_)
      · have hF := hF.1 cd
        exact wm_actClear_82 X ih S M v1 v2 v3 hF _ _ _ (lv_sub hl [0, 1, 2, 3] rfl) hH
      · have hF := hF.2 cd
        refine lv_aload_n hx hb dX6_actClear_45 rfl (lv_at hl 0 rfl) ?_
        refine zm_getf X hH 31 (by decide) rfl q1744 dX6_actClear_46 ?_
        refine lv_iload_n hx hb dX6_actClear_49 rfl (lv_at hl 3 rfl) ?_
        obtain ⟨hI, hF⟩ := hF
        refine zm_iald X hH 31 (by decide) rfl (n := 150) rfl hI dX6_actClear_50 ?_
        refine lv_iload_n hx hb dX6_actClear_51 rfl (lv_at hl 1 rfl) ?_
        refine lv_icmp_eq (tgt := 58) hx hb dX6_actClear_52 (by decide) (fun cd => ?_) (fun cd => ?_)
        · have hF := hF.1 cd
          refine lv_aload_n hx hb dX6_actClear_58 rfl (lv_at hl 0 rfl) ?_
          refine lv_iload_n hx hb dX6_actClear_59 rfl (lv_at hl 3 rfl) ?_
          refine zm_calli (As := [.int v3]) (rest := []) X hH (wm_rests l D cI cZ ad o X.2.2.2.2.2.2.2.2 S M v3 _ hF) (cwV 1 X.2.2.2.2.1 (lw_V q2027 q2029 qs66 q95 q2030) rfl rfl rfl (by decide +kernel) ⟨Nat.le_of_ble_eq_true rfl, Nat.le_of_ble_eq_true rfl⟩) rfl hl.1 rfl (Nat.le_of_ble_eq_true rfl) dX6_actClear_60 (Nat.le_refl 0) (Nat.le_refl 0) (fun r3 S1 M2 H locs hF hH => ?_)
          obtain ⟨hF, e9, e8⟩ := hF; subst e9; subst e8
          refine lv_if_eq (tgt := 69) hx hb dX6_actClear_63 (by decide) (fun cd => ?_) (fun cd => ?_)
          · have hF := hF.1 cd
            refine lv_aload_n hx hb dX6_actClear_69 rfl (lv_at hl 0 rfl) ?_
            refine zm_getf X hH 35 (by decide) rfl q1748 dX6_actClear_70 ?_
            refine lv_iload_n hx hb dX6_actClear_73 rfl (lv_at hl 3 rfl) ?_
            obtain ⟨hI, hF⟩ := hF
            refine zm_iald X hH 35 (by decide) rfl (n := 150) rfl hI dX6_actClear_74 ?_
            refine lv_iconst (v := 1) hx hb dX6_actClear_75 (by decide) ?_
            refine lv_icmp_ne (tgt := 82) hx hb dX6_actClear_76 (by decide) (fun cd => ?_) (fun cd => ?_)
            · have hF := hF.1 cd
              exact wm_actClear_82 X ih S M v1 v2 v3 hF _ _ _ (lv_sub hl [0, 1, 2, 3] rfl) hH
            · have hF := hF.2 cd
              obtain ⟨x4, ex4⟩ : ∃ z : Int32, z = v2 + 1 := ⟨_, rfl⟩
              have hF := hF x4 ex4
              refine lv_iinc (v := x4) (lv' := [(2, .int x4), (0, .ref o), (1, .int v1), (3, .int v3)]) hx hb dX6_actClear_79 hl (k := 2) rfl (by rw [ex4]; rfl) (by decide) rfl (fun ls hl => ?_)
              exact wm_actClear_82 X ih S M v1 x4 v3 hF _ _ _ (lv_sub hl [1, 2, 0, 3] rfl) hH
          · have hF := hF.2 cd
            refine lv_bipush (v := (-3)) hx hb dX6_actClear_66 (by decide) ?_
            exact zm_iret X hH rfl rfl hF dX6_actClear_68
        · have hF := hF.2 cd
          refine lv_goto (tgt := 82) hx hb dX6_actClear_55 (by decide) ?_
          exact wm_actClear_82 X ih S M v1 v2 v3 hF _ _ _ (lv_sub hl [0, 1, 2, 3] rfl) hH
set_option maxHeartbeats 4000000 in
set_option maxRecDepth 100000 in
/-- actClear: what the bytecode asks is what its run needs -/
theorem wm_actClear (l : Launch) (D : va_G) (cI cZ : ClassId) (ad : Nat → Nat) (o : Nat) (hAd : zm_Ad ad o) (S : Nat → Int32) (M : Nat → Nat → Int32) (v1 : Int32) (Q : Int32 → (Nat → Int32) → (Nat → Nat → Int32) → Prop) (hF : fm_actClear S M v1 Q) :
    zm_Mi l yX6_actClear (ws_ yX6_actClear cX6_actClear 6 (some .int)) 2 D cI cZ ad o [.int v1] S M Q := by
  refine zm_ofi rfl hAd (Nat.le_of_ble_eq_true rfl) ?_
  intro p e s m args below meth c H locs ls X hH hl
  have hx := X.1
  have hb := X.2.1
  have hl : lv_has ls 6 [(0, .ref o), (1, .int v1)] := hl
  unfold fm_actClear at hF
  refine lv_aload_n hx hb dX6_actClear_0 rfl (lv_at hl 0 rfl) ?_
  refine lv_iload_n hx hb dX6_actClear_1 rfl (lv_at hl 1 rfl) ?_
  refine zm_calli (As := [.int v1]) (rest := []) X hH (wm_isGrave l D cI cZ ad o X.2.2.2.2.2.2.2.2 S M v1 _ hF) (cwV 1 X.2.2.2.2.1 (lw_V q1953 q1955 qs48 q95 q1956) rfl rfl rfl (by decide +kernel) ⟨Nat.le_of_ble_eq_true rfl, Nat.le_of_ble_eq_true rfl⟩) rfl hl.1 rfl (Nat.le_of_ble_eq_true rfl) dX6_actClear_2 (Nat.le_refl 0) (Nat.le_refl 0) (fun r3 S1 M2 H locs hF hH => ?_)
  obtain ⟨hF, e9, e8⟩ := hF; subst e9; subst e8
  refine lv_if_ne (tgt := 10) hx hb dX6_actClear_5 (by decide) (fun cd => ?_) (fun cd => ?_)
  · have hF := hF.1 cd
    refine lv_aload_n hx hb dX6_actClear_10 rfl (lv_at hl 0 rfl) ?_
    refine zm_getf X hH 11 (by decide) rfl q1724 dX6_actClear_11 ?_
    refine lv_iload_n hx hb dX6_actClear_14 rfl (lv_at hl 1 rfl) ?_
    obtain ⟨hI, hF⟩ := hF
    refine zm_iald X hH 11 (by decide) rfl (n := 150) rfl hI dX6_actClear_15 ?_
    refine lv_iconst (v := 3) hx hb dX6_actClear_16 (by decide) ?_
    refine lv_icmp_eq (tgt := 23) hx hb dX6_actClear_17 (by decide) (fun cd => ?_) (fun cd => ?_)
    · have hF := hF.1 cd
      refine lv_iconst (v := 0) hx hb dX6_actClear_23 (by decide) ?_
      refine lv_istore_n (lv' := [(2, .int 0), (0, .ref o), (1, .int v1)]) hx hb dX6_actClear_24 rfl hl (by decide) rfl (fun ls hl => ?_)
      refine lv_iconst (v := 0) hx hb dX6_actClear_25 (by decide) ?_
      refine lv_istore_n (lv' := [(3, .int 0), (2, .int 0), (0, .ref o), (1, .int v1)]) hx hb dX6_actClear_26 rfl hl (by decide) rfl (fun ls hl => ?_)
      obtain ⟨n9, hF⟩ := hF
      exact wm_actClear_27 X n9 S M v1 0 0 hF _ _ _ (lv_sub hl [2, 3, 1, 0] rfl) hH
    · have hF := hF.2 cd
      refine lv_bipush (v := (-2)) hx hb dX6_actClear_20 (by decide) ?_
      exact zm_iret X hH rfl rfl hF dX6_actClear_22
  · have hF := hF.2 cd
    refine lv_iconst (v := (-1)) hx hb dX6_actClear_8 (by decide) ?_
    exact zm_iret X hH rfl rfl hF dX6_actClear_9
set_option maxHeartbeats 4000000 in
set_option maxRecDepth 100000 in
theorem wm_nextAt_63 {p : Program} {l : Launch} {e : Env} {s : State} {m : MethodId} {args : Array Value} {below : List Frame} {meth : Method} {c : Code} {D : va_G} {cI cZ : ClassId} {ad : Nat → Nat} {o : Nat} {Q : Int32 → Prop} {S0 : Nat → Int32} {M0 : Nat → Nat → Int32} (X : zm_Cx p s m args meth c cX6_nextAt 3 (some .int) D cI cZ ad o) :
    ∀ (S : Nat → Int32) (M : Nat → Nat → Int32) (v2 : Int32), fm_nextAt_63 Q S M v2 → ∀ (H : Heap) (locs : List Loc) (ls : Array Slot), S0 = S → M0 = M → lv_has ls 3 [(0, .ref o), (2, .int v2)] → zm_H D cI cZ ad o S M s H locs → W p l e (zm_R 0) s m args below meth c H locs 0 0 (MQ below (zm_QS (fun r S1 M1 => Q r ∧ S0 = S1 ∧ M0 = M1) D cI cZ ad o) args s 0 0 (zm_A ad o)) (F0 m 63 ls []) := by
  have hx := X.1
  have hb := X.2.1
  intro S M v2 hF
  intro H locs ls eS eM hl hH
  unfold fm_nextAt_63 at hF
  refine lv_iload_n hx hb dX6_nextAt_63 rfl (lv_at hl 1 rfl) ?_
  refine lv_aload_n hx hb dX6_nextAt_64 rfl (lv_at hl 0 rfl) ?_
  refine zm_getf X hH 1 (by decide) rfl q1714 dX6_nextAt_65 ?_
  refine lv_icmp_le (tgt := 75) hx hb dX6_nextAt_68 (by decide) (fun cd => ?_) (fun cd => ?_)
  · have hF := hF.1 cd
    refine lv_aload_n hx hb dX6_nextAt_75 rfl (lv_at hl 0 rfl) ?_
    refine zm_getf X hH 1 (by decide) rfl q1714 dX6_nextAt_76 ?_
    refine lv_iconst (v := 1) hx hb dX6_nextAt_79 (by decide) ?_
    refine lv_iadd hx hb dX6_nextAt_80 ?_
    exact zm_iret X hH rfl rfl ⟨hF, eS, eM⟩ dX6_nextAt_81
  · have hF := hF.2 cd
    refine lv_iload_n hx hb dX6_nextAt_71 rfl (lv_at hl 1 rfl) ?_
    refine lv_goto (tgt := 81) hx hb dX6_nextAt_72 (by decide) ?_
    exact zm_iret X hH rfl rfl ⟨hF, eS, eM⟩ dX6_nextAt_81
set_option maxHeartbeats 4000000 in
set_option maxRecDepth 100000 in
theorem wm_nextAt_23 {p : Program} {l : Launch} {e : Env} {s : State} {m : MethodId} {args : Array Value} {below : List Frame} {meth : Method} {c : Code} {D : va_G} {cI cZ : ClassId} {ad : Nat → Nat} {o : Nat} {Q : Int32 → Prop} {S0 : Nat → Int32} {M0 : Nat → Nat → Int32} (X : zm_Cx p s m args meth c cX6_nextAt 3 (some .int) D cI cZ ad o) :
    ∀ (S : Nat → Int32) (M : Nat → Nat → Int32) (v1 : Int32), fm_nextAt_23 Q S M v1 → ∀ (H : Heap) (locs : List Loc) (ls : Array Slot), S0 = S → M0 = M → lv_has ls 3 [(0, .ref o), (1, .int v1)] → zm_H D cI cZ ad o S M s H locs → W p l e (zm_R 0) s m args below meth c H locs 0 0 (MQ below (zm_QS (fun r S1 M1 => Q r ∧ S0 = S1 ∧ M0 = M1) D cI cZ ad o) args s 0 0 (zm_A ad o)) (F0 m 23 ls []) := by
  have hx := X.1
  have hb := X.2.1
  intro S M v1 hF
  intro H locs ls eS eM hl hH
  unfold fm_nextAt_23 at hF
  refine lv_aload_n hx hb dX6_nextAt_23 rfl (lv_at hl 0 rfl) ?_
  refine zm_getf X hH 13 (by decide) rfl q1726 dX6_nextAt_24 ?_
  refine lv_iload_n hx hb dX6_nextAt_27 rfl (lv_at hl 1 rfl) ?_
  obtain ⟨hI, hF⟩ := hF
  refine zm_iald X hH 13 (by decide) rfl (n := 150) rfl hI dX6_nextAt_28 ?_
  refine lv_iconst (v := 1) hx hb dX6_nextAt_29 (by decide) ?_
  refine lv_iadd hx hb dX6_nextAt_30 ?_
  refine lv_topi (fun x1 ex1 => ?_)
  have hF := hF x1 ex1
  refine lv_istore_n (lv' := [(2, .int x1), (0, .ref o), (1, .int v1)]) hx hb dX6_nextAt_31 rfl hl (by decide) rfl (fun ls hl => ?_)
  refine lv_aload_n hx hb dX6_nextAt_32 rfl (lv_at hl 1 rfl) ?_
  refine zm_getf X hH 11 (by decide) rfl q1724 dX6_nextAt_33 ?_
  refine lv_iload_n hx hb dX6_nextAt_36 rfl (lv_at hl 2 rfl) ?_
  obtain ⟨hI, hF⟩ := hF
  refine zm_iald X hH 11 (by decide) rfl (n := 150) rfl hI dX6_nextAt_37 ?_
  refine lv_iconst (v := 2) hx hb dX6_nextAt_38 (by decide) ?_
  refine lv_icmp_ne (tgt := 63) hx hb dX6_nextAt_39 (by decide) (fun cd => ?_) (fun cd => ?_)
  · have hF := hF.1 cd
    exact wm_nextAt_63 X S M x1 hF _ _ _ eS eM (lv_sub hl [1, 0] rfl) hH
  · have hF := hF.2 cd
    refine lv_aload_n hx hb dX6_nextAt_42 rfl (lv_at hl 1 rfl) ?_
    refine zm_getf X hH 15 (by decide) rfl q1728 dX6_nextAt_43 ?_
    refine lv_iload_n hx hb dX6_nextAt_46 rfl (lv_at hl 2 rfl) ?_
    obtain ⟨hI, hF⟩ := hF
    refine zm_iald X hH 15 (by decide) rfl (n := 150) rfl hI dX6_nextAt_47 ?_
    refine lv_iconst (v := 1) hx hb dX6_nextAt_48 (by decide) ?_
    refine lv_iadd hx hb dX6_nextAt_49 ?_
    refine lv_iload_n hx hb dX6_nextAt_50 rfl (lv_at hl 0 rfl) ?_
    refine lv_icmp_ge (tgt := 63) hx hb dX6_nextAt_51 (by decide) (fun cd => ?_) (fun cd => ?_)
    · have hF := hF.1 cd
      exact wm_nextAt_63 X S M x1 hF _ _ _ eS eM (lv_sub hl [1, 0] rfl) hH
    · have hF := hF.2 cd
      refine lv_aload_n hx hb dX6_nextAt_54 rfl (lv_at hl 1 rfl) ?_
      refine zm_getf X hH 15 (by decide) rfl q1728 dX6_nextAt_55 ?_
      refine lv_iload_n hx hb dX6_nextAt_58 rfl (lv_at hl 2 rfl) ?_
      obtain ⟨hI, hF⟩ := hF
      refine zm_iald X hH 15 (by decide) rfl (n := 150) rfl hI dX6_nextAt_59 ?_
      refine lv_iconst (v := 1) hx hb dX6_nextAt_60 (by decide) ?_
      refine lv_iadd hx hb dX6_nextAt_61 ?_
      refine lv_topi (fun x2 ex2 => ?_)
      have hF := hF x2 ex2
      refine lv_istore_n (lv' := [(2, .int x2), (0, .ref o), (1, .int v1)]) hx hb dX6_nextAt_62 rfl hl (by decide) rfl (fun ls hl => ?_)
      exact wm_nextAt_63 X S M x2 hF _ _ _ eS eM (lv_sub hl [1, 0] rfl) hH
set_option maxHeartbeats 4000000 in
set_option maxRecDepth 100000 in
/-- nextAt: what the bytecode asks is what its run needs -/
theorem wm_nextAt (l : Launch) (D : va_G) (cI cZ : ClassId) (ad : Nat → Nat) (o : Nat) (hAd : zm_Ad ad o) (S : Nat → Int32) (M : Nat → Nat → Int32) (v1 : Int32) (Q : Int32 → Prop) (hF : fm_nextAt S M v1 Q) :
    zm_Mi l yX6_nextAt (ws_ yX6_nextAt cX6_nextAt 3 (some .int)) 0 D cI cZ ad o [.int v1] S M (fun r S1 M1 => Q r ∧ S = S1 ∧ M = M1) := by
  refine zm_ofi rfl hAd (Nat.le_of_ble_eq_true rfl) ?_
  intro p e s m args below meth c H locs ls X hH hl
  have hx := X.1
  have hb := X.2.1
  have hl : lv_has ls 3 [(0, .ref o), (1, .int v1)] := hl
  unfold fm_nextAt at hF
  refine lv_aload_n hx hb dX6_nextAt_0 rfl (lv_at hl 0 rfl) ?_
  refine zm_getf X hH 11 (by decide) rfl q1724 dX6_nextAt_1 ?_
  refine lv_iload_n hx hb dX6_nextAt_4 rfl (lv_at hl 1 rfl) ?_
  obtain ⟨hI, hF⟩ := hF
  refine zm_iald X hH 11 (by decide) rfl (n := 150) rfl hI dX6_nextAt_5 ?_
  refine lv_iconst (v := 1) hx hb dX6_nextAt_6 (by decide) ?_
  refine lv_icmp_eq (tgt := 23) hx hb dX6_nextAt_7 (by decide) (fun cd => ?_) (fun cd => ?_)
  · have hF := hF.1 cd
    exact wm_nextAt_23 X S M v1 hF _ _ _ rfl rfl (lv_sub hl [0, 1] rfl) hH
  · have hF := hF.2 cd
    refine lv_aload_n hx hb dX6_nextAt_10 rfl (lv_at hl 0 rfl) ?_
    refine zm_getf X hH 11 (by decide) rfl q1724 dX6_nextAt_11 ?_
    refine lv_iload_n hx hb dX6_nextAt_14 rfl (lv_at hl 1 rfl) ?_
    obtain ⟨hI, hF⟩ := hF
    refine zm_iald X hH 11 (by decide) rfl (n := 150) rfl hI dX6_nextAt_15 ?_
    refine lv_iconst (v := 2) hx hb dX6_nextAt_16 (by decide) ?_
    refine lv_icmp_eq (tgt := 23) hx hb dX6_nextAt_17 (by decide) (fun cd => ?_) (fun cd => ?_)
    · have hF := hF.1 cd
      exact wm_nextAt_23 X S M v1 hF _ _ _ rfl rfl (lv_sub hl [0, 1] rfl) hH
    · have hF := hF.2 cd
      refine lv_ldc (v := 1000000) hx hb X.2.2.2.1 (X.2.2.2.2.1 _ q1986) dX6_nextAt_20 ?_
      exact zm_iret X hH rfl rfl ⟨hF, rfl, rfl⟩ dX6_nextAt_22
set_option maxHeartbeats 4000000 in
set_option maxRecDepth 100000 in
theorem wm_actTurn_223 {p : Program} {l : Launch} {e : Env} {s : State} {m : MethodId} {args : Array Value} {below : List Frame} {meth : Method} {c : Code} {D : va_G} {cI cZ : ClassId} {ad : Nat → Nat} {o : Nat} {Q : Int32 → (Nat → Int32) → (Nat → Nat → Int32) → Prop} {K33 : (Nat → Int32) → (Nat → Nat → Int32) → Int32 → Prop} {K86 : (Nat → Int32) → (Nat → Nat → Int32) → Int32 → Int32 → Prop} (X : zm_Cx p s m args meth c cX6_actTurn 6 (some .int) D cI cZ ad o) (hK33 : ∀ (S : Nat → Int32) (M : Nat → Nat → Int32) (v2 : Int32), K33 S M v2 → ∀ (H : Heap) (locs : List Loc) (ls : Array Slot), lv_has ls 6 [(0, .ref o), (2, .int v2)] → zm_H D cI cZ ad o S M s H locs → W p l e (zm_R 2) s m args below meth c H locs 0 0 (MQ below (zm_QS Q D cI cZ ad o) args s 0 0 (zm_A ad o)) (F0 m 33 ls [])) (hK86 : ∀ (S : Nat → Int32) (M : Nat → Nat → Int32) (v2 : Int32) (v4 : Int32), K86 S M v2 v4 → ∀ (H : Heap) (locs : List Loc) (ls : Array Slot), lv_has ls 6 [(0, .ref o), (2, .int v2), (4, .int v4)] → zm_H D cI cZ ad o S M s H locs → W p l e (zm_R 2) s m args below meth c H locs 0 0 (MQ below (zm_QS Q D cI cZ ad o) args s 0 0 (zm_A ad o)) (F0 m 86 ls [])) :
    ∀ (S : Nat → Int32) (M : Nat → Nat → Int32) (v2 : Int32) (v4 : Int32), fm_actTurn_223 Q K33 K86 S M v2 v4 → ∀ (H : Heap) (locs : List Loc) (ls : Array Slot), lv_has ls 6 [(0, .ref o), (2, .int v2), (4, .int v4)] → zm_H D cI cZ ad o S M s H locs → W p l e (zm_R 2) s m args below meth c H locs 0 0 (MQ below (zm_QS Q D cI cZ ad o) args s 0 0 (zm_A ad o)) (F0 m 223 ls []) := by
  have hx := X.1
  have hb := X.2.1
  intro S M v2 v4 hF
  intro H locs ls hl hH
  unfold fm_actTurn_223 at hF
  obtain ⟨x1, ex1⟩ : ∃ z : Int32, z = v4 + 1 := ⟨_, rfl⟩
  have hF := hF x1 ex1
  refine lv_iinc (v := x1) (lv' := [(4, .int x1), (0, .ref o), (2, .int v2)]) hx hb dX6_actTurn_223 hl (k := 2) rfl (by rw [ex1]; rfl) (by decide) rfl (fun ls hl => ?_)
  refine lv_goto (tgt := 86) hx hb dX6_actTurn_226 (by decide) ?_
  exact hK86 S M v2 x1 hF _ _ _ (lv_sub hl [1, 2, 0] rfl) hH
set_option maxHeartbeats 4000000 in
set_option maxRecDepth 100000 in
theorem wm_actTurn_181 {p : Program} {l : Launch} {e : Env} {s : State} {m : MethodId} {args : Array Value} {below : List Frame} {meth : Method} {c : Code} {D : va_G} {cI cZ : ClassId} {ad : Nat → Nat} {o : Nat} {Q : Int32 → (Nat → Int32) → (Nat → Nat → Int32) → Prop} {K33 : (Nat → Int32) → (Nat → Nat → Int32) → Int32 → Prop} {K86 : (Nat → Int32) → (Nat → Nat → Int32) → Int32 → Int32 → Prop} (X : zm_Cx p s m args meth c cX6_actTurn 6 (some .int) D cI cZ ad o) (hK33 : ∀ (S : Nat → Int32) (M : Nat → Nat → Int32) (v2 : Int32), K33 S M v2 → ∀ (H : Heap) (locs : List Loc) (ls : Array Slot), lv_has ls 6 [(0, .ref o), (2, .int v2)] → zm_H D cI cZ ad o S M s H locs → W p l e (zm_R 2) s m args below meth c H locs 0 0 (MQ below (zm_QS Q D cI cZ ad o) args s 0 0 (zm_A ad o)) (F0 m 33 ls [])) (hK86 : ∀ (S : Nat → Int32) (M : Nat → Nat → Int32) (v2 : Int32) (v4 : Int32), K86 S M v2 v4 → ∀ (H : Heap) (locs : List Loc) (ls : Array Slot), lv_has ls 6 [(0, .ref o), (2, .int v2), (4, .int v4)] → zm_H D cI cZ ad o S M s H locs → W p l e (zm_R 2) s m args below meth c H locs 0 0 (MQ below (zm_QS Q D cI cZ ad o) args s 0 0 (zm_A ad o)) (F0 m 86 ls [])) :
    ∀ (S : Nat → Int32) (M : Nat → Nat → Int32) (v2 : Int32) (v4 : Int32), fm_actTurn_181 Q K33 K86 S M v2 v4 → ∀ (H : Heap) (locs : List Loc) (ls : Array Slot), lv_has ls 6 [(0, .ref o), (2, .int v2), (4, .int v4)] → zm_H D cI cZ ad o S M s H locs → W p l e (zm_R 2) s m args below meth c H locs 0 0 (MQ below (zm_QS Q D cI cZ ad o) args s 0 0 (zm_A ad o)) (F0 m 181 ls []) := by
  have hx := X.1
  have hb := X.2.1
  intro S M v2 v4 hF
  intro H locs ls hl hH
  unfold fm_actTurn_181 at hF
  refine lv_aload_n hx hb dX6_actTurn_181 rfl (lv_at hl 0 rfl) ?_
  refine zm_getf X hH 11 (by decide) rfl q1724 dX6_actTurn_182 ?_
  refine lv_iload hx hb dX6_actTurn_185 (lv_at hl 2 rfl) ?_
  refine lv_iconst (v := 3) hx hb dX6_actTurn_187 (by decide) ?_
  obtain ⟨hI, hF⟩ := hF
  refine zm_iast X hH 11 (by decide) rfl (n := 150) rfl hI dX6_actTurn_188 (fun M1 H locs eM1 hH => ?_)
  have hF := hF M1 eM1
  refine lv_goto (tgt := 223) hx hb dX6_actTurn_189 (by decide) ?_
  exact wm_actTurn_223 X hK33 hK86 S M1 v2 v4 hF _ _ _ (lv_sub hl [0, 1, 2] rfl) hH
set_option maxHeartbeats 4000000 in
set_option maxRecDepth 100000 in
theorem wm_actTurn_160 {p : Program} {l : Launch} {e : Env} {s : State} {m : MethodId} {args : Array Value} {below : List Frame} {meth : Method} {c : Code} {D : va_G} {cI cZ : ClassId} {ad : Nat → Nat} {o : Nat} {Q : Int32 → (Nat → Int32) → (Nat → Nat → Int32) → Prop} {K33 : (Nat → Int32) → (Nat → Nat → Int32) → Int32 → Prop} {K86 : (Nat → Int32) → (Nat → Nat → Int32) → Int32 → Int32 → Prop} (X : zm_Cx p s m args meth c cX6_actTurn 6 (some .int) D cI cZ ad o) (hK33 : ∀ (S : Nat → Int32) (M : Nat → Nat → Int32) (v2 : Int32), K33 S M v2 → ∀ (H : Heap) (locs : List Loc) (ls : Array Slot), lv_has ls 6 [(0, .ref o), (2, .int v2)] → zm_H D cI cZ ad o S M s H locs → W p l e (zm_R 2) s m args below meth c H locs 0 0 (MQ below (zm_QS Q D cI cZ ad o) args s 0 0 (zm_A ad o)) (F0 m 33 ls [])) (hK86 : ∀ (S : Nat → Int32) (M : Nat → Nat → Int32) (v2 : Int32) (v4 : Int32), K86 S M v2 v4 → ∀ (H : Heap) (locs : List Loc) (ls : Array Slot), lv_has ls 6 [(0, .ref o), (2, .int v2), (4, .int v4)] → zm_H D cI cZ ad o S M s H locs → W p l e (zm_R 2) s m args below meth c H locs 0 0 (MQ below (zm_QS Q D cI cZ ad o) args s 0 0 (zm_A ad o)) (F0 m 86 ls [])) :
    ∀ (S : Nat → Int32) (M : Nat → Nat → Int32) (v2 : Int32) (v4 : Int32) (t0 : Int32), fm_actTurn_160 Q K33 K86 S M v2 v4 t0 → ∀ (H : Heap) (locs : List Loc) (ls : Array Slot), lv_has ls 6 [(0, .ref o), (2, .int v2), (4, .int v4)] → zm_H D cI cZ ad o S M s H locs → W p l e (zm_R 2) s m args below meth c H locs 0 0 (MQ below (zm_QS Q D cI cZ ad o) args s 0 0 (zm_A ad o)) (F0 m 160 ls [.int t0]) := by
  have hx := X.1
  have hb := X.2.1
  intro S M v2 v4 t0 hF
  intro H locs ls hl hH
  unfold fm_actTurn_160 at hF
  refine lv_istore (lv' := [(5, .int t0), (0, .ref o), (2, .int v2), (4, .int v4)]) hx hb dX6_actTurn_160 hl (by decide) rfl (fun ls hl => ?_)
  refine lv_aload_n hx hb dX6_actTurn_162 rfl (lv_at hl 1 rfl) ?_
  refine zm_getf X hH 1 (by decide) rfl q1714 dX6_actTurn_163 ?_
  refine lv_aload_n hx hb dX6_actTurn_166 rfl (lv_at hl 1 rfl) ?_
  refine zm_getf X hH 13 (by decide) rfl q1726 dX6_actTurn_167 ?_
  refine lv_iload hx hb dX6_actTurn_170 (lv_at hl 3 rfl) ?_
  obtain ⟨hI, hF⟩ := hF
  refine zm_iald X hH 13 (by decide) rfl (n := 150) rfl hI dX6_actTurn_172 ?_
  refine lv_icmp_gt (tgt := 181) hx hb dX6_actTurn_173 (by decide) (fun cd => ?_) (fun cd => ?_)
  · have hF := hF.1 cd
    exact wm_actTurn_181 X hK33 hK86 S M v2 v4 hF _ _ _ (lv_sub hl [1, 2, 3] rfl) hH
  · have hF := hF.2 cd
    refine lv_iload hx hb dX6_actTurn_176 (lv_at hl 0 rfl) ?_
    refine lv_if_eq (tgt := 192) hx hb dX6_actTurn_178 (by decide) (fun cd => ?_) (fun cd => ?_)
    · have hF := hF.1 cd
      refine lv_aload_n hx hb dX6_actTurn_192 rfl (lv_at hl 1 rfl) ?_
      refine zm_getf X hH 11 (by decide) rfl q1724 dX6_actTurn_193 ?_
      refine lv_iload hx hb dX6_actTurn_196 (lv_at hl 3 rfl) ?_
      obtain ⟨hI, hF⟩ := hF
      refine zm_iald X hH 11 (by decide) rfl (n := 150) rfl hI dX6_actTurn_198 ?_
      refine lv_iconst (v := 2) hx hb dX6_actTurn_199 (by decide) ?_
      refine lv_icmp_ne (tgt := 223) hx hb dX6_actTurn_200 (by decide) (fun cd => ?_) (fun cd => ?_)
      · have hF := hF.1 cd
        exact wm_actTurn_223 X hK33 hK86 S M v2 v4 hF _ _ _ (lv_sub hl [1, 2, 3] rfl) hH
      · have hF := hF.2 cd
        refine lv_aload_n hx hb dX6_actTurn_203 rfl (lv_at hl 1 rfl) ?_
        refine zm_getf X hH 1 (by decide) rfl q1714 dX6_actTurn_204 ?_
        refine lv_aload_n hx hb dX6_actTurn_207 rfl (lv_at hl 1 rfl) ?_
        refine zm_getf X hH 15 (by decide) rfl q1728 dX6_actTurn_208 ?_
        refine lv_iload hx hb dX6_actTurn_211 (lv_at hl 3 rfl) ?_
        obtain ⟨hI, hF⟩ := hF
        refine zm_iald X hH 15 (by decide) rfl (n := 150) rfl hI dX6_actTurn_213 ?_
        refine lv_icmp_le (tgt := 223) hx hb dX6_actTurn_214 (by decide) (fun cd => ?_) (fun cd => ?_)
        · have hF := hF.1 cd
          exact wm_actTurn_223 X hK33 hK86 S M v2 v4 hF _ _ _ (lv_sub hl [1, 2, 3] rfl) hH
        · have hF := hF.2 cd
          refine lv_aload_n hx hb dX6_actTurn_217 rfl (lv_at hl 1 rfl) ?_
          refine lv_iload hx hb dX6_actTurn_218 (lv_at hl 3 rfl) ?_
          refine zm_callv (As := [.int v4]) (rest := []) X hH (wm_passOn l D cI cZ ad o X.2.2.2.2.2.2.2.2 S M v4 _ hF) (cwV 1 X.2.2.2.2.1 (lw_V q1999 q2001 qs59 q95 q2002) rfl rfl rfl (by decide +kernel) ⟨Nat.le_of_ble_eq_true rfl, Nat.le_of_ble_eq_true rfl⟩) rfl hl.1 rfl (Nat.le_of_ble_eq_true rfl) dX6_actTurn_220 (Nat.le_refl 0) (Nat.le_refl 0) (fun S1 M2 H locs hF hH => ?_)
          exact wm_actTurn_223 X hK33 hK86 S1 M2 v2 v4 hF _ _ _ (lv_sub hl [1, 2, 3] rfl) hH
    · have hF := hF.2 cd
      exact wm_actTurn_181 X hK33 hK86 S M v2 v4 hF _ _ _ (lv_sub hl [1, 2, 3] rfl) hH
set_option maxHeartbeats 4000000 in
set_option maxRecDepth 100000 in
theorem wm_actTurn_159 {p : Program} {l : Launch} {e : Env} {s : State} {m : MethodId} {args : Array Value} {below : List Frame} {meth : Method} {c : Code} {D : va_G} {cI cZ : ClassId} {ad : Nat → Nat} {o : Nat} {Q : Int32 → (Nat → Int32) → (Nat → Nat → Int32) → Prop} {K33 : (Nat → Int32) → (Nat → Nat → Int32) → Int32 → Prop} {K86 : (Nat → Int32) → (Nat → Nat → Int32) → Int32 → Int32 → Prop} (X : zm_Cx p s m args meth c cX6_actTurn 6 (some .int) D cI cZ ad o) (hK33 : ∀ (S : Nat → Int32) (M : Nat → Nat → Int32) (v2 : Int32), K33 S M v2 → ∀ (H : Heap) (locs : List Loc) (ls : Array Slot), lv_has ls 6 [(0, .ref o), (2, .int v2)] → zm_H D cI cZ ad o S M s H locs → W p l e (zm_R 2) s m args below meth c H locs 0 0 (MQ below (zm_QS Q D cI cZ ad o) args s 0 0 (zm_A ad o)) (F0 m 33 ls [])) (hK86 : ∀ (S : Nat → Int32) (M : Nat → Nat → Int32) (v2 : Int32) (v4 : Int32), K86 S M v2 v4 → ∀ (H : Heap) (locs : List Loc) (ls : Array Slot), lv_has ls 6 [(0, .ref o), (2, .int v2), (4, .int v4)] → zm_H D cI cZ ad o S M s H locs → W p l e (zm_R 2) s m args below meth c H locs 0 0 (MQ below (zm_QS Q D cI cZ ad o) args s 0 0 (zm_A ad o)) (F0 m 86 ls [])) :
    ∀ (S : Nat → Int32) (M : Nat → Nat → Int32) (v2 : Int32) (v4 : Int32), fm_actTurn_159 Q K33 K86 S M v2 v4 → ∀ (H : Heap) (locs : List Loc) (ls : Array Slot), lv_has ls 6 [(0, .ref o), (2, .int v2), (4, .int v4)] → zm_H D cI cZ ad o S M s H locs → W p l e (zm_R 2) s m args below meth c H locs 0 0 (MQ below (zm_QS Q D cI cZ ad o) args s 0 0 (zm_A ad o)) (F0 m 159 ls []) := by
  have hx := X.1
  have hb := X.2.1
  intro S M v2 v4 hF
  intro H locs ls hl hH
  unfold fm_actTurn_159 at hF
  refine lv_iconst (v := 0) hx hb dX6_actTurn_159 (by decide) ?_
  exact wm_actTurn_160 X hK33 hK86 S M v2 v4 0 hF _ _ _ (lv_sub hl [0, 1, 2] rfl) hH
set_option maxHeartbeats 4000000 in
set_option maxRecDepth 100000 in
theorem wm_actTurn_120 {p : Program} {l : Launch} {e : Env} {s : State} {m : MethodId} {args : Array Value} {below : List Frame} {meth : Method} {c : Code} {D : va_G} {cI cZ : ClassId} {ad : Nat → Nat} {o : Nat} {Q : Int32 → (Nat → Int32) → (Nat → Nat → Int32) → Prop} {K33 : (Nat → Int32) → (Nat → Nat → Int32) → Int32 → Prop} {K86 : (Nat → Int32) → (Nat → Nat → Int32) → Int32 → Int32 → Prop} (X : zm_Cx p s m args meth c cX6_actTurn 6 (some .int) D cI cZ ad o) (hK33 : ∀ (S : Nat → Int32) (M : Nat → Nat → Int32) (v2 : Int32), K33 S M v2 → ∀ (H : Heap) (locs : List Loc) (ls : Array Slot), lv_has ls 6 [(0, .ref o), (2, .int v2)] → zm_H D cI cZ ad o S M s H locs → W p l e (zm_R 2) s m args below meth c H locs 0 0 (MQ below (zm_QS Q D cI cZ ad o) args s 0 0 (zm_A ad o)) (F0 m 33 ls [])) (hK86 : ∀ (S : Nat → Int32) (M : Nat → Nat → Int32) (v2 : Int32) (v4 : Int32), K86 S M v2 v4 → ∀ (H : Heap) (locs : List Loc) (ls : Array Slot), lv_has ls 6 [(0, .ref o), (2, .int v2), (4, .int v4)] → zm_H D cI cZ ad o S M s H locs → W p l e (zm_R 2) s m args below meth c H locs 0 0 (MQ below (zm_QS Q D cI cZ ad o) args s 0 0 (zm_A ad o)) (F0 m 86 ls [])) :
    ∀ (S : Nat → Int32) (M : Nat → Nat → Int32) (v2 : Int32) (v4 : Int32), fm_actTurn_120 Q K33 K86 S M v2 v4 → ∀ (H : Heap) (locs : List Loc) (ls : Array Slot), lv_has ls 6 [(0, .ref o), (2, .int v2), (4, .int v4)] → zm_H D cI cZ ad o S M s H locs → W p l e (zm_R 2) s m args below meth c H locs 0 0 (MQ below (zm_QS Q D cI cZ ad o) args s 0 0 (zm_A ad o)) (F0 m 120 ls []) := by
  have hx := X.1
  have hb := X.2.1
  intro S M v2 v4 hF
  intro H locs ls hl hH
  unfold fm_actTurn_120 at hF
  refine lv_aload_n hx hb dX6_actTurn_120 rfl (lv_at hl 0 rfl) ?_
  refine zm_getf X hH 11 (by decide) rfl q1724 dX6_actTurn_121 ?_
  refine lv_iload hx hb dX6_actTurn_124 (lv_at hl 2 rfl) ?_
  obtain ⟨hI, hF⟩ := hF
  refine zm_iald X hH 11 (by decide) rfl (n := 150) rfl hI dX6_actTurn_126 ?_
  refine lv_iconst (v := 2) hx hb dX6_actTurn_127 (by decide) ?_
  refine lv_icmp_ne (tgt := 159) hx hb dX6_actTurn_128 (by decide) (fun cd => ?_) (fun cd => ?_)
  · have hF := hF.1 cd
    exact wm_actTurn_159 X hK33 hK86 S M v2 v4 hF _ _ _ (lv_sub hl [0, 1, 2] rfl) hH
  · have hF := hF.2 cd
    refine lv_aload_n hx hb dX6_actTurn_131 rfl (lv_at hl 0 rfl) ?_
    refine zm_getf X hH 14 (by decide) rfl q1727 dX6_actTurn_132 ?_
    refine lv_iload hx hb dX6_actTurn_135 (lv_at hl 2 rfl) ?_
    obtain ⟨hI, hF⟩ := hF
    refine zm_iald X hH 14 (by decide) rfl (n := 150) rfl hI dX6_actTurn_137 ?_
    refine lv_if_ge (tgt := 159) hx hb dX6_actTurn_138 (by decide) (fun cd => ?_) (fun cd => ?_)
    · have hF := hF.1 cd
      exact wm_actTurn_159 X hK33 hK86 S M v2 v4 hF _ _ _ (lv_sub hl [0, 1, 2] rfl) hH
    · have hF := hF.2 cd
      refine lv_aload_n hx hb dX6_actTurn_141 rfl (lv_at hl 0 rfl) ?_
      refine zm_getf X hH 1 (by decide) rfl q1714 dX6_actTurn_142 ?_
      refine lv_aload_n hx hb dX6_actTurn_145 rfl (lv_at hl 0 rfl) ?_
      refine zm_getf X hH 15 (by decide) rfl q1728 dX6_actTurn_146 ?_
      refine lv_iload hx hb dX6_actTurn_149 (lv_at hl 2 rfl) ?_
      obtain ⟨hI, hF⟩ := hF
      refine zm_iald X hH 15 (by decide) rfl (n := 150) rfl hI dX6_actTurn_151 ?_
      refine lv_icmp_le (tgt := 159) hx hb dX6_actTurn_152 (by decide) (fun cd => ?_) (fun cd => ?_)
      · have hF := hF.1 cd
        exact wm_actTurn_159 X hK33 hK86 S M v2 v4 hF _ _ _ (lv_sub hl [0, 1, 2] rfl) hH
      · have hF := hF.2 cd
        refine lv_iconst (v := 1) hx hb dX6_actTurn_155 (by decide) ?_
        refine lv_goto (tgt := 160) hx hb dX6_actTurn_156 (by decide) ?_
        exact wm_actTurn_160 X hK33 hK86 S M v2 v4 1 hF _ _ _ (lv_sub hl [0, 1, 2] rfl) hH
set_option maxHeartbeats 4000000 in
set_option maxRecDepth 100000 in
theorem wm_actTurn_86 {p : Program} {l : Launch} {e : Env} {s : State} {m : MethodId} {args : Array Value} {below : List Frame} {meth : Method} {c : Code} {D : va_G} {cI cZ : ClassId} {ad : Nat → Nat} {o : Nat} {Q : Int32 → (Nat → Int32) → (Nat → Nat → Int32) → Prop} {K33 : (Nat → Int32) → (Nat → Nat → Int32) → Int32 → Prop} (X : zm_Cx p s m args meth c cX6_actTurn 6 (some .int) D cI cZ ad o) (hK33 : ∀ (S : Nat → Int32) (M : Nat → Nat → Int32) (v2 : Int32), K33 S M v2 → ∀ (H : Heap) (locs : List Loc) (ls : Array Slot), lv_has ls 6 [(0, .ref o), (2, .int v2)] → zm_H D cI cZ ad o S M s H locs → W p l e (zm_R 2) s m args below meth c H locs 0 0 (MQ below (zm_QS Q D cI cZ ad o) args s 0 0 (zm_A ad o)) (F0 m 33 ls [])) :
    ∀ (n : Nat) (S : Nat → Int32) (M : Nat → Nat → Int32) (v2 : Int32) (v4 : Int32), fm_actTurn_86 Q K33 n S M v2 v4 → ∀ (H : Heap) (locs : List Loc) (ls : Array Slot), lv_has ls 6 [(0, .ref o), (2, .int v2), (4, .int v4)] → zm_H D cI cZ ad o S M s H locs → W p l e (zm_R 2) s m args below meth c H locs 0 0 (MQ below (zm_QS Q D cI cZ ad o) args s 0 0 (zm_A ad o)) (F0 m 86 ls []) := by
  have hx := X.1
  have hb := X.2.1
  intro n
  induction n with
  | zero =>
    intro S M v2 v4 hF
    exact False.elim hF
  | succ n ih =>
    intro S M v2 v4 hF
    intro H locs ls hl hH
    unfold fm_actTurn_86 at hF
    refine lv_iload hx hb dX6_actTurn_86 (lv_at hl 2 rfl) ?_
    refine lv_aload_n hx hb dX6_actTurn_88 rfl (lv_at hl 0 rfl) ?_
    refine zm_getf X hH 9 (by decide) rfl q1722 dX6_actTurn_89 ?_
    refine lv_icmp_ge (tgt := 229) hx hb dX6_actTurn_92 (by decide) (fun cd => ?_) (fun cd => ?_)
    · have hF := hF.1 cd
      refine lv_goto (tgt := 33) hx hb dX6_actTurn_229 (by decide) ?_
      exact hK33 S M v2 hF _ _ _ (lv_sub hl [0, 1] rfl) hH
    · have hF := hF.2 cd
      refine lv_aload_n hx hb dX6_actTurn_95 rfl (lv_at hl 0 rfl) ?_
      refine zm_getf X hH 11 (by decide) rfl q1724 dX6_actTurn_96 ?_
      refine lv_iload hx hb dX6_actTurn_99 (lv_at hl 2 rfl) ?_
      obtain ⟨hI, hF⟩ := hF
      refine zm_iald X hH 11 (by decide) rfl (n := 150) rfl hI dX6_actTurn_101 ?_
      refine lv_iconst (v := 1) hx hb dX6_actTurn_102 (by decide) ?_
      refine lv_icmp_eq (tgt := 120) hx hb dX6_actTurn_103 (by decide) (fun cd => ?_) (fun cd => ?_)
      · have hF := hF.1 cd
        exact wm_actTurn_120 X hK33 ih S M v2 v4 hF _ _ _ (lv_sub hl [0, 1, 2] rfl) hH
      · have hF := hF.2 cd
        refine lv_aload_n hx hb dX6_actTurn_106 rfl (lv_at hl 0 rfl) ?_
        refine zm_getf X hH 11 (by decide) rfl q1724 dX6_actTurn_107 ?_
        refine lv_iload hx hb dX6_actTurn_110 (lv_at hl 2 rfl) ?_
        obtain ⟨hI, hF⟩ := hF
        refine zm_iald X hH 11 (by decide) rfl (n := 150) rfl hI dX6_actTurn_112 ?_
        refine lv_iconst (v := 2) hx hb dX6_actTurn_113 (by decide) ?_
        refine lv_icmp_eq (tgt := 120) hx hb dX6_actTurn_114 (by decide) (fun cd => ?_) (fun cd => ?_)
        · have hF := hF.1 cd
          exact wm_actTurn_120 X hK33 ih S M v2 v4 hF _ _ _ (lv_sub hl [0, 1, 2] rfl) hH
        · have hF := hF.2 cd
          refine lv_goto (tgt := 223) hx hb dX6_actTurn_117 (by decide) ?_
          exact wm_actTurn_223 X hK33 ih S M v2 v4 hF _ _ _ (lv_sub hl [0, 1, 2] rfl) hH
set_option maxHeartbeats 4000000 in
set_option maxRecDepth 100000 in
theorem wm_actTurn_72 {p : Program} {l : Launch} {e : Env} {s : State} {m : MethodId} {args : Array Value} {below : List Frame} {meth : Method} {c : Code} {D : va_G} {cI cZ : ClassId} {ad : Nat → Nat} {o : Nat} {Q : Int32 → (Nat → Int32) → (Nat → Nat → Int32) → Prop} {K33 : (Nat → Int32) → (Nat → Nat → Int32) → Int32 → Prop} {K46 : (Nat → Int32) → (Nat → Nat → Int32) → Int32 → Int32 → Int32 → Prop} (X : zm_Cx p s m args meth c cX6_actTurn 6 (some .int) D cI cZ ad o) (hK33 : ∀ (S : Nat → Int32) (M : Nat → Nat → Int32) (v2 : Int32), K33 S M v2 → ∀ (H : Heap) (locs : List Loc) (ls : Array Slot), lv_has ls 6 [(0, .ref o), (2, .int v2)] → zm_H D cI cZ ad o S M s H locs → W p l e (zm_R 2) s m args below meth c H locs 0 0 (MQ below (zm_QS Q D cI cZ ad o) args s 0 0 (zm_A ad o)) (F0 m 33 ls [])) (hK46 : ∀ (S : Nat → Int32) (M : Nat → Nat → Int32) (v2 : Int32) (v3 : Int32) (v4 : Int32), K46 S M v2 v3 v4 → ∀ (H : Heap) (locs : List Loc) (ls : Array Slot), lv_has ls 6 [(0, .ref o), (2, .int v2), (3, .int v3), (4, .int v4)] → zm_H D cI cZ ad o S M s H locs → W p l e (zm_R 2) s m args below meth c H locs 0 0 (MQ below (zm_QS Q D cI cZ ad o) args s 0 0 (zm_A ad o)) (F0 m 46 ls [])) :
    ∀ (S : Nat → Int32) (M : Nat → Nat → Int32) (v2 : Int32) (v3 : Int32) (v4 : Int32), fm_actTurn_72 Q K33 K46 S M v2 v3 v4 → ∀ (H : Heap) (locs : List Loc) (ls : Array Slot), lv_has ls 6 [(0, .ref o), (2, .int v2), (3, .int v3), (4, .int v4)] → zm_H D cI cZ ad o S M s H locs → W p l e (zm_R 2) s m args below meth c H locs 0 0 (MQ below (zm_QS Q D cI cZ ad o) args s 0 0 (zm_A ad o)) (F0 m 72 ls []) := by
  have hx := X.1
  have hb := X.2.1
  intro S M v2 v3 v4 hF
  intro H locs ls hl hH
  unfold fm_actTurn_72 at hF
  obtain ⟨x1, ex1⟩ : ∃ z : Int32, z = v4 + 1 := ⟨_, rfl⟩
  have hF := hF x1 ex1
  refine lv_iinc (v := x1) (lv' := [(4, .int x1), (0, .ref o), (2, .int v2), (3, .int v3)]) hx hb dX6_actTurn_72 hl (k := 3) rfl (by rw [ex1]; rfl) (by decide) rfl (fun ls hl => ?_)
  refine lv_goto (tgt := 46) hx hb dX6_actTurn_75 (by decide) ?_
  exact hK46 S M v2 v3 x1 hF _ _ _ (lv_sub hl [1, 2, 3, 0] rfl) hH
set_option maxHeartbeats 4000000 in
set_option maxRecDepth 100000 in
theorem wm_actTurn_46 {p : Program} {l : Launch} {e : Env} {s : State} {m : MethodId} {args : Array Value} {below : List Frame} {meth : Method} {c : Code} {D : va_G} {cI cZ : ClassId} {ad : Nat → Nat} {o : Nat} {Q : Int32 → (Nat → Int32) → (Nat → Nat → Int32) → Prop} {K33 : (Nat → Int32) → (Nat → Nat → Int32) → Int32 → Prop} (X : zm_Cx p s m args meth c cX6_actTurn 6 (some .int) D cI cZ ad o) (hK33 : ∀ (S : Nat → Int32) (M : Nat → Nat → Int32) (v2 : Int32), K33 S M v2 → ∀ (H : Heap) (locs : List Loc) (ls : Array Slot), lv_has ls 6 [(0, .ref o), (2, .int v2)] → zm_H D cI cZ ad o S M s H locs → W p l e (zm_R 2) s m args below meth c H locs 0 0 (MQ below (zm_QS Q D cI cZ ad o) args s 0 0 (zm_A ad o)) (F0 m 33 ls [])) :
    ∀ (n : Nat) (S : Nat → Int32) (M : Nat → Nat → Int32) (v2 : Int32) (v3 : Int32) (v4 : Int32), fm_actTurn_46 Q K33 n S M v2 v3 v4 → ∀ (H : Heap) (locs : List Loc) (ls : Array Slot), lv_has ls 6 [(0, .ref o), (2, .int v2), (3, .int v3), (4, .int v4)] → zm_H D cI cZ ad o S M s H locs → W p l e (zm_R 2) s m args below meth c H locs 0 0 (MQ below (zm_QS Q D cI cZ ad o) args s 0 0 (zm_A ad o)) (F0 m 46 ls []) := by
  have hx := X.1
  have hb := X.2.1
  intro n
  induction n with
  | zero =>
    intro S M v2 v3 v4 hF
    exact False.elim hF
  | succ n ih =>
    intro S M v2 v3 v4 hF
    intro H locs ls hl hH
    unfold fm_actTurn_46 at hF
    refine lv_iload hx hb dX6_actTurn_46 (lv_at hl 3 rfl) ?_
    refine lv_aload_n hx hb dX6_actTurn_48 rfl (lv_at hl 0 rfl) ?_
    refine zm_getf X hH 9 (by decide) rfl q1722 dX6_actTurn_49 ?_
    refine lv_icmp_ge (tgt := 78) hx hb dX6_actTurn_52 (by decide) (fun cd => ?_) (fun cd => ?_)
    · have hF := hF.1 cd
      refine lv_aload_n hx hb dX6_actTurn_78 rfl (lv_at hl 0 rfl) ?_
      refine lv_iload_n hx hb dX6_actTurn_79 rfl (lv_at hl 2 rfl) ?_
      refine zm_puti X hH 1 (by decide) rfl rfl (by decide +kernel) q1714 dX6_actTurn_80 (fun S1 H locs eS1 hH => ?_)
      have hF := hF S1 eS1
      refine lv_iconst (v := 0) hx hb dX6_actTurn_83 (by decide) ?_
      refine lv_istore (lv' := [(4, .int 0), (0, .ref o), (2, .int v2), (3, .int v3)]) hx hb dX6_actTurn_84 hl (by decide) rfl (fun ls hl => ?_)
      obtain ⟨n9, hF⟩ := hF
      exact wm_actTurn_86 X hK33 n9 S1 M v2 0 hF _ _ _ (lv_sub hl [1, 2, 0] rfl) hH
    · have hF := hF.2 cd
      refine lv_aload_n hx hb dX6_actTurn_55 rfl (lv_at hl 0 rfl) ?_
      refine lv_iload hx hb dX6_actTurn_56 (lv_at hl 3 rfl) ?_
      refine zm_calli (As := [.int v4]) (rest := []) X hH (wm_nextAt l D cI cZ ad o X.2.2.2.2.2.2.2.2 S M v4 _ hF) (cwV 1 X.2.2.2.2.1 (lw_V q2073 q2075 qs77 q95 q2076) rfl rfl rfl (by decide +kernel) ⟨Nat.le_of_ble_eq_true rfl, Nat.le_of_ble_eq_true rfl⟩) rfl hl.1 rfl (Nat.le_of_ble_eq_true rfl) dX6_actTurn_58 (Nat.le_refl 0) (Nat.le_refl 0) (fun r4 S2 M3 H locs hF hH => ?_)
      obtain ⟨hF, e9, e8⟩ := hF; subst e9; subst e8
      refine lv_iload_n hx hb dX6_actTurn_61 rfl (lv_at hl 2 rfl) ?_
      refine lv_icmp_ge (tgt := 72) hx hb dX6_actTurn_62 (by decide) (fun cd => ?_) (fun cd => ?_)
      · have hF := hF.1 cd
        exact wm_actTurn_72 X hK33 ih S M v2 v3 v4 hF _ _ _ (lv_sub hl [0, 1, 2, 3] rfl) hH
      · have hF := hF.2 cd
        refine lv_aload_n hx hb dX6_actTurn_65 rfl (lv_at hl 0 rfl) ?_
        refine lv_iload hx hb dX6_actTurn_66 (lv_at hl 3 rfl) ?_
        refine zm_calli (As := [.int v4]) (rest := []) X hH (wm_nextAt l D cI cZ ad o X.2.2.2.2.2.2.2.2 S M v4 _ hF) (cwV 1 X.2.2.2.2.1 (lw_V q2073 q2075 qs77 q95 q2076) rfl rfl rfl (by decide +kernel) ⟨Nat.le_of_ble_eq_true rfl, Nat.le_of_ble_eq_true rfl⟩) rfl hl.1 rfl (Nat.le_of_ble_eq_true rfl) dX6_actTurn_68 (Nat.le_refl 0) (Nat.le_refl 0) (fun r7 S5 M6 H locs hF hH => ?_)
        obtain ⟨hF, e9, e8⟩ := hF; subst e9; subst e8
        refine lv_istore_n (lv' := [(3, .int r7), (0, .ref o), (2, .int v2), (4, .int v4)]) hx hb dX6_actTurn_71 rfl hl (by decide) rfl (fun ls hl => ?_)
        exact wm_actTurn_72 X hK33 ih S M v2 r7 v4 hF _ _ _ (lv_sub hl [1, 2, 0, 3] rfl) hH
set_option maxHeartbeats 4000000 in
set_option maxRecDepth 100000 in
theorem wm_actTurn_33 {p : Program} {l : Launch} {e : Env} {s : State} {m : MethodId} {args : Array Value} {below : List Frame} {meth : Method} {c : Code} {D : va_G} {cI cZ : ClassId} {ad : Nat → Nat} {o : Nat} {Q : Int32 → (Nat → Int32) → (Nat → Nat → Int32) → Prop} (X : zm_Cx p s m args meth c cX6_actTurn 6 (some .int) D cI cZ ad o) :
    ∀ (n : Nat) (S : Nat → Int32) (M : Nat → Nat → Int32) (v2 : Int32), fm_actTurn_33 Q n S M v2 → ∀ (H : Heap) (locs : List Loc) (ls : Array Slot), lv_has ls 6 [(0, .ref o), (2, .int v2)] → zm_H D cI cZ ad o S M s H locs → W p l e (zm_R 2) s m args below meth c H locs 0 0 (MQ below (zm_QS Q D cI cZ ad o) args s 0 0 (zm_A ad o)) (F0 m 33 ls []) := by
  have hx := X.1
  have hb := X.2.1
  intro n
  induction n with
  | zero =>
    intro S M v2 hF
    exact False.elim hF
  | succ n ih =>
    intro S M v2 hF
    intro H locs ls hl hH
    unfold fm_actTurn_33 at hF
    refine lv_aload_n hx hb dX6_actTurn_33 rfl (lv_at hl 0 rfl) ?_
    refine zm_getf X hH 1 (by decide) rfl q1714 dX6_actTurn_34 ?_
    refine lv_iload_n hx hb dX6_actTurn_37 rfl (lv_at hl 1 rfl) ?_
    refine lv_icmp_ge (tgt := 232) hx hb dX6_actTurn_38 (by decide) (fun cd => ?_) (fun cd => ?_)
    · have hF := hF.1 cd
      refine lv_aload_n hx hb dX6_actTurn_232 rfl (lv_at hl 0 rfl) ?_
      refine zm_getf X hH 1 (by decide) rfl q1714 dX6_actTurn_233 ?_
      exact zm_iret X hH rfl rfl hF dX6_actTurn_236
    · have hF := hF.2 cd
      refine lv_iload_n hx hb dX6_actTurn_41 rfl (lv_at hl 1 rfl) ?_
      refine lv_istore_n (lv' := [(3, .int v2), (0, .ref o), (2, .int v2)]) hx hb dX6_actTurn_42 rfl hl (by decide) rfl (fun ls hl => ?_)
      refine lv_iconst (v := 0) hx hb dX6_actTurn_43 (by decide) ?_
      refine lv_istore (lv' := [(4, .int 0), (3, .int v2), (0, .ref o), (2, .int v2)]) hx hb dX6_actTurn_44 hl (by decide) rfl (fun ls hl => ?_)
      obtain ⟨n9, hF⟩ := hF
      exact wm_actTurn_46 X ih n9 S M v2 v2 0 hF _ _ _ (lv_sub hl [2, 3, 1, 0] rfl) hH
set_option maxHeartbeats 4000000 in
set_option maxRecDepth 100000 in
/-- actTurn: what the bytecode asks is what its run needs -/
theorem wm_actTurn (l : Launch) (D : va_G) (cI cZ : ClassId) (ad : Nat → Nat) (o : Nat) (hAd : zm_Ad ad o) (S : Nat → Int32) (M : Nat → Nat → Int32) (v1 : Int32) (Q : Int32 → (Nat → Int32) → (Nat → Nat → Int32) → Prop) (hF : fm_actTurn S M v1 Q) :
    zm_Mi l yX6_actTurn (ws_ yX6_actTurn cX6_actTurn 6 (some .int)) 2 D cI cZ ad o [.int v1] S M Q := by
  refine zm_ofi rfl hAd (Nat.le_of_ble_eq_true rfl) ?_
  intro p e s m args below meth c H locs ls X hH hl
  have hx := X.1
  have hb := X.2.1
  have hl : lv_has ls 6 [(0, .ref o), (1, .int v1)] := hl
  unfold fm_actTurn at hF
  refine lv_iload_n hx hb dX6_actTurn_0 rfl (lv_at hl 1 rfl) ?_
  refine lv_iconst (v := 1) hx hb dX6_actTurn_1 (by decide) ?_
  refine lv_icmp_lt (tgt := 24) hx hb dX6_actTurn_2 (by decide) (fun cd => ?_) (fun cd => ?_)
  · have hF := hF.1 cd
    refine lv_iconst (v := (-1)) hx hb dX6_actTurn_24 (by decide) ?_
    exact zm_iret X hH rfl rfl hF dX6_actTurn_25
  · have hF := hF.2 cd
    refine lv_iload_n hx hb dX6_actTurn_5 rfl (lv_at hl 1 rfl) ?_
    refine lv_ldcw (v := 40000) hx hb X.2.2.2.1 (X.2.2.2.2.1 _ q2071) dX6_actTurn_6 ?_
    refine lv_icmp_gt (tgt := 24) hx hb dX6_actTurn_9 (by decide) (fun cd => ?_) (fun cd => ?_)
    · have hF := hF.1 cd
      refine lv_iconst (v := (-1)) hx hb dX6_actTurn_24 (by decide) ?_
      exact zm_iret X hH rfl rfl hF dX6_actTurn_25
    · have hF := hF.2 cd
      refine lv_aload_n hx hb dX6_actTurn_12 rfl (lv_at hl 0 rfl) ?_
      refine zm_getf X hH 1 (by decide) rfl q1714 dX6_actTurn_13 ?_
      refine lv_iload_n hx hb dX6_actTurn_16 rfl (lv_at hl 1 rfl) ?_
      refine lv_iadd hx hb dX6_actTurn_17 ?_
      refine lv_ldcw (v := 200000) hx hb X.2.2.2.1 (X.2.2.2.2.1 _ q2072) dX6_actTurn_18 ?_
      refine lv_icmp_le (tgt := 26) hx hb dX6_actTurn_21 (by decide) (fun cd => ?_) (fun cd => ?_)
      · have hF := hF.1 cd
        refine lv_aload_n hx hb dX6_actTurn_26 rfl (lv_at hl 0 rfl) ?_
        refine zm_getf X hH 1 (by decide) rfl q1714 dX6_actTurn_27 ?_
        refine lv_iload_n hx hb dX6_actTurn_30 rfl (lv_at hl 1 rfl) ?_
        refine lv_iadd hx hb dX6_actTurn_31 ?_
        refine lv_topi (fun x1 ex1 => ?_)
        have hF := hF x1 ex1
        refine lv_istore_n (lv' := [(2, .int x1), (0, .ref o), (1, .int v1)]) hx hb dX6_actTurn_32 rfl hl (by decide) rfl (fun ls hl => ?_)
        obtain ⟨n9, hF⟩ := hF
        exact wm_actTurn_33 X n9 S M x1 hF _ _ _ (lv_sub hl [1, 0] rfl) hH
      · have hF := hF.2 cd
        refine lv_iconst (v := (-1)) hx hb dX6_actTurn_24 (by decide) ?_
        exact zm_iret X hH rfl rfl hF dX6_actTurn_25
set_option maxHeartbeats 4000000 in
set_option maxRecDepth 100000 in
/-- does: what the bytecode asks is what its run needs -/
theorem wm_does (l : Launch) (D : va_G) (cI cZ : ClassId) (ad : Nat → Nat) (o : Nat) (hAd : zm_Ad ad o) (S : Nat → Int32) (M : Nat → Nat → Int32) (v1 : Int32) (v2 : Int32) (v3 : Int32) (v4 : Int32) (v5 : Int32) (v6 : Int32) (Q : Int32 → (Nat → Int32) → (Nat → Nat → Int32) → Prop) (hF : fm_does S M v1 v2 v3 v4 v5 v6 Q) :
    zm_Mi l yX6_does (ws_ yX6_does cX6_does 7 (some .int)) 5 D cI cZ ad o [.int v1, .int v2, .int v3, .int v4, .int v5, .int v6] S M Q := by
  refine zm_ofi rfl hAd (Nat.le_of_ble_eq_true rfl) ?_
  intro p e s m args below meth c H locs ls X hH hl
  have hx := X.1
  have hb := X.2.1
  have hl : lv_has ls 7 [(0, .ref o), (1, .int v1), (2, .int v2), (3, .int v3), (4, .int v4), (5, .int v5), (6, .int v6)] := hl
  unfold fm_does at hF
  refine lv_iload_n hx hb dX6_does_0 rfl (lv_at hl 1 rfl) ?_
  by_cases hsw : v1.toInt < 1 ∨ 17 < v1.toInt
  · have hF := hF.1 hsw
    refine lv_tableOut (tgt := 225) hx hb dX6_does_1 hsw (by decide) ?_
    refine lv_aload_n hx hb dX6_does_225 rfl (lv_at hl 0 rfl) ?_
    refine lv_iload_n hx hb dX6_does_226 rfl (lv_at hl 2 rfl) ?_
    refine zm_calli (As := [.int v2]) (rest := []) X hH (wm_actTurn l D cI cZ ad o X.2.2.2.2.2.2.2.2 S M v2 _ hF) (cwV 1 X.2.2.2.2.1 (lw_V q2067 q2069 qs76 q95 q2070) rfl rfl rfl (by decide +kernel) ⟨Nat.le_of_ble_eq_true rfl, Nat.le_of_ble_eq_true rfl⟩) rfl hl.1 rfl (Nat.le_of_ble_eq_true rfl) dX6_does_227 (Nat.le_refl 0) (Nat.le_refl 0) (fun r3 S1 M2 H locs hF hH => ?_)
    exact zm_iret X hH rfl rfl hF dX6_does_230
  · have hF := hF.2
    have hsw2 : v1.toInt = 1 ∨ v1.toInt = 2 ∨ v1.toInt = 3 ∨ v1.toInt = 4 ∨ v1.toInt = 5 ∨ v1.toInt = 6 ∨ v1.toInt = 7 ∨ v1.toInt = 8 ∨ v1.toInt = 9 ∨ v1.toInt = 10 ∨ v1.toInt = 11 ∨ v1.toInt = 12 ∨ v1.toInt = 13 ∨ v1.toInt = 14 ∨ v1.toInt = 15 ∨ v1.toInt = 16 ∨ v1.toInt = 17 := by omega
    rcases hsw2 with hk | hk | hk | hk | hk | hk | hk | hk | hk | hk | hk | hk | hk | hk | hk | hk | hk
    · have hF := hF.1 hk
      refine lv_tableIn (tgt := 84) hx hb dX6_does_1 (by rw [hk]; decide) (by rw [hk]; decide) (by rw [hk]; rfl) (by decide) ?_
      refine lv_aload_n hx hb dX6_does_84 rfl (lv_at hl 0 rfl) ?_
      refine lv_iload_n hx hb dX6_does_85 rfl (lv_at hl 2 rfl) ?_
      refine zm_calli (As := [.int v2]) (rest := []) X hH (wm_actField l D cI cZ ad o X.2.2.2.2.2.2.2.2 S M v2 _ hF) (cwV 1 X.2.2.2.2.1 (lw_V q1880 q1882 qs30 q95 q1883) rfl rfl rfl (by decide +kernel) ⟨Nat.le_of_ble_eq_true rfl, Nat.le_of_ble_eq_true rfl⟩) rfl hl.1 rfl (Nat.le_of_ble_eq_true rfl) dX6_does_86 (Nat.le_refl 0) (Nat.le_refl 0) (fun r6 S4 M5 H locs hF hH => ?_)
      exact zm_iret X hH rfl rfl hF dX6_does_89
    · have hF := hF.2.1 hk
      refine lv_tableIn (tgt := 90) hx hb dX6_does_1 (by rw [hk]; decide) (by rw [hk]; decide) (by rw [hk]; rfl) (by decide) ?_
      refine lv_aload_n hx hb dX6_does_90 rfl (lv_at hl 0 rfl) ?_
      refine lv_iload_n hx hb dX6_does_91 rfl (lv_at hl 2 rfl) ?_
      refine lv_iload_n hx hb dX6_does_92 rfl (lv_at hl 3 rfl) ?_
      refine lv_iload hx hb dX6_does_93 (lv_at hl 4 rfl) ?_
      refine zm_calli (As := [.int v2, .int v3, .int v4]) (rest := []) X hH (wm_actRow l D cI cZ ad o X.2.2.2.2.2.2.2.2 S M v2 v3 v4 _ hF) (cwV 3 X.2.2.2.2.1 (lw_V q1884 q1886 qs31 q95 q1887) rfl rfl rfl (by decide +kernel) ⟨Nat.le_of_ble_eq_true rfl, Nat.le_of_ble_eq_true rfl⟩) rfl hl.1 rfl (Nat.le_of_ble_eq_true rfl) dX6_does_95 (Nat.le_refl 0) (Nat.le_refl 0) (fun r9 S7 M8 H locs hF hH => ?_)
      exact zm_iret X hH rfl rfl hF dX6_does_98
    · have hF := hF.2.2.1 hk
      refine lv_tableIn (tgt := 99) hx hb dX6_does_1 (by rw [hk]; decide) (by rw [hk]; decide) (by rw [hk]; rfl) (by decide) ?_
      refine lv_aload_n hx hb dX6_does_99 rfl (lv_at hl 0 rfl) ?_
      refine lv_iload_n hx hb dX6_does_100 rfl (lv_at hl 2 rfl) ?_
      refine lv_iload_n hx hb dX6_does_101 rfl (lv_at hl 3 rfl) ?_
      refine zm_calli (As := [.int v2, .int v3]) (rest := []) X hH (wm_actTear l D cI cZ ad o X.2.2.2.2.2.2.2.2 S M v2 v3 _ hF) (cwV 2 X.2.2.2.2.1 (lw_V q1888 q1890 qs32 q95 q1891) rfl rfl rfl (by decide +kernel) ⟨Nat.le_of_ble_eq_true rfl, Nat.le_of_ble_eq_true rfl⟩) rfl hl.1 rfl (Nat.le_of_ble_eq_true rfl) dX6_does_102 (Nat.le_refl 0) (Nat.le_refl 0) (fun r12 S10 M11 H locs hF hH => ?_)
      exact zm_iret X hH rfl rfl hF dX6_does_105
    · have hF := hF.2.2.2.1 hk
      refine lv_tableIn (tgt := 106) hx hb dX6_does_1 (by rw [hk]; decide) (by rw [hk]; decide) (by rw [hk]; rfl) (by decide) ?_
      refine lv_aload_n hx hb dX6_does_106 rfl (lv_at hl 0 rfl) ?_
      refine lv_iload_n hx hb dX6_does_107 rfl (lv_at hl 2 rfl) ?_
      refine lv_iload_n hx hb dX6_does_108 rfl (lv_at hl 3 rfl) ?_
      refine lv_iload hx hb dX6_does_109 (lv_at hl 4 rfl) ?_
      refine lv_iload hx hb dX6_does_111 (lv_at hl 5 rfl) ?_
      refine zm_calli (As := [.int v2, .int v3, .int v4, .int v5]) (rest := []) X hH (wm_actPlace l D cI cZ ad o X.2.2.2.2.2.2.2.2 S M v2 v3 v4 v5 _ hF) (cwV 4 X.2.2.2.2.1 (lw_V q1896 q1898 qs34 q95 q1899) rfl rfl rfl (by decide +kernel) ⟨Nat.le_of_ble_eq_true rfl, Nat.le_of_ble_eq_true rfl⟩) rfl hl.1 rfl (Nat.le_of_ble_eq_true rfl) dX6_does_113 (Nat.le_refl 0) (Nat.le_refl 0) (fun r15 S13 M14 H locs hF hH => ?_)
      exact zm_iret X hH rfl rfl hF dX6_does_116
    · have hF := hF.2.2.2.2.1 hk
      refine lv_tableIn (tgt := 117) hx hb dX6_does_1 (by rw [hk]; decide) (by rw [hk]; decide) (by rw [hk]; rfl) (by decide) ?_
      refine lv_aload_n hx hb dX6_does_117 rfl (lv_at hl 0 rfl) ?_
      refine lv_iload_n hx hb dX6_does_118 rfl (lv_at hl 2 rfl) ?_
      refine lv_iload_n hx hb dX6_does_119 rfl (lv_at hl 3 rfl) ?_
      refine lv_iload hx hb dX6_does_120 (lv_at hl 4 rfl) ?_
      refine lv_iload hx hb dX6_does_122 (lv_at hl 5 rfl) ?_
      refine lv_iload hx hb dX6_does_124 (lv_at hl 6 rfl) ?_
      refine zm_calli (As := [.int v2, .int v3, .int v4, .int v5, .int v6]) (rest := []) X hH (wm_actGrave l D cI cZ ad o X.2.2.2.2.2.2.2.2 S M v2 v3 v4 v5 v6 _ hF) (cwV 5 X.2.2.2.2.1 (lw_V q1912 q1914 qs38 q95 q1915) rfl rfl rfl (by decide +kernel) ⟨Nat.le_of_ble_eq_true rfl, Nat.le_of_ble_eq_true rfl⟩) rfl hl.1 rfl (Nat.le_of_ble_eq_true rfl) dX6_does_126 (Nat.le_refl 0) (Nat.le_refl 0) (fun r18 S16 M17 H locs hF hH => ?_)
      exact zm_iret X hH rfl rfl hF dX6_does_129
    · have hF := hF.2.2.2.2.2.1 hk
      refine lv_tableIn (tgt := 130) hx hb dX6_does_1 (by rw [hk]; decide) (by rw [hk]; decide) (by rw [hk]; rfl) (by decide) ?_
      refine lv_aload_n hx hb dX6_does_130 rfl (lv_at hl 0 rfl) ?_
      refine lv_iload_n hx hb dX6_does_131 rfl (lv_at hl 2 rfl) ?_
      refine zm_calli (As := [.int v2]) (rest := []) X hH (wm_actPerson l D cI cZ ad o X.2.2.2.2.2.2.2.2 S M v2 _ hF) (cwV 1 X.2.2.2.2.1 (lw_V q1932 q1934 qs43 q95 q1935) rfl rfl rfl (by decide +kernel) ⟨Nat.le_of_ble_eq_true rfl, Nat.le_of_ble_eq_true rfl⟩) rfl hl.1 rfl (Nat.le_of_ble_eq_true rfl) dX6_does_132 (Nat.le_refl 0) (Nat.le_refl 0) (fun r21 S19 M20 H locs hF hH => ?_)
      exact zm_iret X hH rfl rfl hF dX6_does_135
    · have hF := hF.2.2.2.2.2.2.1 hk
      refine lv_tableIn (tgt := 136) hx hb dX6_does_1 (by rw [hk]; decide) (by rw [hk]; decide) (by rw [hk]; rfl) (by decide) ?_
      refine lv_aload_n hx hb dX6_does_136 rfl (lv_at hl 0 rfl) ?_
      refine lv_iload_n hx hb dX6_does_137 rfl (lv_at hl 2 rfl) ?_
      refine lv_iload_n hx hb dX6_does_138 rfl (lv_at hl 3 rfl) ?_
      refine lv_iload hx hb dX6_does_139 (lv_at hl 4 rfl) ?_
      refine zm_calli (As := [.int v2, .int v3, .int v4]) (rest := []) X hH (wm_actKin l D cI cZ ad o X.2.2.2.2.2.2.2.2 S M v2 v3 v4 _ hF) (cwV 3 X.2.2.2.2.1 (lw_V q1937 q1939 qs44 q95 q1940) rfl rfl rfl (by decide +kernel) ⟨Nat.le_of_ble_eq_true rfl, Nat.le_of_ble_eq_true rfl⟩) rfl hl.1 rfl (Nat.le_of_ble_eq_true rfl) dX6_does_141 (Nat.le_refl 0) (Nat.le_refl 0) (fun r24 S22 M23 H locs hF hH => ?_)
      exact zm_iret X hH rfl rfl hF dX6_does_144
    · have hF := hF.2.2.2.2.2.2.2.1 hk
      refine lv_tableIn (tgt := 145) hx hb dX6_does_1 (by rw [hk]; decide) (by rw [hk]; decide) (by rw [hk]; rfl) (by decide) ?_
      refine lv_aload_n hx hb dX6_does_145 rfl (lv_at hl 0 rfl) ?_
      refine lv_iload_n hx hb dX6_does_146 rfl (lv_at hl 2 rfl) ?_
      refine lv_iload_n hx hb dX6_does_147 rfl (lv_at hl 3 rfl) ?_
      refine zm_calli (As := [.int v2, .int v3]) (rest := []) X hH (wm_actPaper l D cI cZ ad o X.2.2.2.2.2.2.2.2 S M v2 v3 _ hF) (cwV 2 X.2.2.2.2.1 (lw_V q1945 q1947 qs46 q95 q1948) rfl rfl rfl (by decide +kernel) ⟨Nat.le_of_ble_eq_true rfl, Nat.le_of_ble_eq_true rfl⟩) rfl hl.1 rfl (Nat.le_of_ble_eq_true rfl) dX6_does_148 (Nat.le_refl 0) (Nat.le_refl 0) (fun r27 S25 M26 H locs hF hH => ?_)
      exact zm_iret X hH rfl rfl hF dX6_does_151
    · have hF := hF.2.2.2.2.2.2.2.2.1 hk
      refine lv_tableIn (tgt := 152) hx hb dX6_does_1 (by rw [hk]; decide) (by rw [hk]; decide) (by rw [hk]; rfl) (by decide) ?_
      refine lv_aload_n hx hb dX6_does_152 rfl (lv_at hl 0 rfl) ?_
      refine lv_iload_n hx hb dX6_does_153 rfl (lv_at hl 2 rfl) ?_
      refine lv_iload_n hx hb dX6_does_154 rfl (lv_at hl 3 rfl) ?_
      refine lv_iload hx hb dX6_does_155 (lv_at hl 4 rfl) ?_
      refine zm_calli (As := [.int v2, .int v3, .int v4]) (rest := []) X hH (wm_actRight l D cI cZ ad o X.2.2.2.2.2.2.2.2 S M v2 v3 v4 _ hF) (cwV 3 X.2.2.2.2.1 (lw_V q1949 q1951 qs47 q95 q1952) rfl rfl rfl (by decide +kernel) ⟨Nat.le_of_ble_eq_true rfl, Nat.le_of_ble_eq_true rfl⟩) rfl hl.1 rfl (Nat.le_of_ble_eq_true rfl) dX6_does_157 (Nat.le_refl 0) (Nat.le_refl 0) (fun r30 S28 M29 H locs hF hH => ?_)
      exact zm_iret X hH rfl rfl hF dX6_does_160
    · have hF := hF.2.2.2.2.2.2.2.2.2.1 hk
      refine lv_tableIn (tgt := 161) hx hb dX6_does_1 (by rw [hk]; decide) (by rw [hk]; decide) (by rw [hk]; rfl) (by decide) ?_
      refine lv_aload_n hx hb dX6_does_161 rfl (lv_at hl 0 rfl) ?_
      refine lv_iload_n hx hb dX6_does_162 rfl (lv_at hl 2 rfl) ?_
      refine lv_iload_n hx hb dX6_does_163 rfl (lv_at hl 3 rfl) ?_
      refine zm_calli (As := [.int v2, .int v3]) (rest := []) X hH (wm_actLonger l D cI cZ ad o X.2.2.2.2.2.2.2.2 S M v2 v3 _ hF) (cwV 2 X.2.2.2.2.1 (lw_V q1961 q1963 qs50 q95 q1964) rfl rfl rfl (by decide +kernel) ⟨Nat.le_of_ble_eq_true rfl, Nat.le_of_ble_eq_true rfl⟩) rfl hl.1 rfl (Nat.le_of_ble_eq_true rfl) dX6_does_164 (Nat.le_refl 0) (Nat.le_refl 0) (fun r33 S31 M32 H locs hF hH => ?_)
      exact zm_iret X hH rfl rfl hF dX6_does_167
    · have hF := hF.2.2.2.2.2.2.2.2.2.2.1 hk
      refine lv_tableIn (tgt := 168) hx hb dX6_does_1 (by rw [hk]; decide) (by rw [hk]; decide) (by rw [hk]; rfl) (by decide) ?_
      refine lv_aload_n hx hb dX6_does_168 rfl (lv_at hl 0 rfl) ?_
      refine lv_iload_n hx hb dX6_does_169 rfl (lv_at hl 2 rfl) ?_
      refine lv_iload_n hx hb dX6_does_170 rfl (lv_at hl 3 rfl) ?_
      refine lv_iload hx hb dX6_does_171 (lv_at hl 4 rfl) ?_
      refine zm_calli (As := [.int v2, .int v3, .int v4]) (rest := []) X hH (wm_actAgree l D cI cZ ad o X.2.2.2.2.2.2.2.2 S M v2 v3 v4 _ hF) (cwV 3 X.2.2.2.2.1 (lw_V q1965 q1967 qs51 q95 q1968) rfl rfl rfl (by decide +kernel) ⟨Nat.le_of_ble_eq_true rfl, Nat.le_of_ble_eq_true rfl⟩) rfl hl.1 rfl (Nat.le_of_ble_eq_true rfl) dX6_does_173 (Nat.le_refl 0) (Nat.le_refl 0) (fun r36 S34 M35 H locs hF hH => ?_)
      exact zm_iret X hH rfl rfl hF dX6_does_176
    · have hF := hF.2.2.2.2.2.2.2.2.2.2.2.1 hk
      refine lv_tableIn (tgt := 177) hx hb dX6_does_1 (by rw [hk]; decide) (by rw [hk]; decide) (by rw [hk]; rfl) (by decide) ?_
      refine lv_aload_n hx hb dX6_does_177 rfl (lv_at hl 0 rfl) ?_
      refine lv_iload_n hx hb dX6_does_178 rfl (lv_at hl 2 rfl) ?_
      refine zm_calli (As := [.int v2]) (rest := []) X hH (wm_actDies l D cI cZ ad o X.2.2.2.2.2.2.2.2 S M v2 _ hF) (cwV 1 X.2.2.2.2.1 (lw_V q1969 q1971 qs52 q95 q1972) rfl rfl rfl (by decide +kernel) ⟨Nat.le_of_ble_eq_true rfl, Nat.le_of_ble_eq_true rfl⟩) rfl hl.1 rfl (Nat.le_of_ble_eq_true rfl) dX6_does_179 (Nat.le_refl 0) (Nat.le_refl 0) (fun r39 S37 M38 H locs hF hH => ?_)
      exact zm_iret X hH rfl rfl hF dX6_does_182
    · have hF := hF.2.2.2.2.2.2.2.2.2.2.2.2.1 hk
      refine lv_tableIn (tgt := 183) hx hb dX6_does_1 (by rw [hk]; decide) (by rw [hk]; decide) (by rw [hk]; rfl) (by decide) ?_
      refine lv_aload_n hx hb dX6_does_183 rfl (lv_at hl 0 rfl) ?_
      refine lv_iload_n hx hb dX6_does_184 rfl (lv_at hl 2 rfl) ?_
      refine lv_iconst (v := 1) hx hb dX6_does_185 (by decide) ?_
      refine zm_calli (As := [.int v2, .int 1]) (rest := []) X hH (wm_actTakes l D cI cZ ad o X.2.2.2.2.2.2.2.2 S M v2 1 _ hF) (cwV 2 X.2.2.2.2.1 (lw_V q2003 q2005 qs60 q95 q2006) rfl rfl rfl (by decide +kernel) ⟨Nat.le_of_ble_eq_true rfl, Nat.le_of_ble_eq_true rfl⟩) rfl hl.1 rfl (Nat.le_of_ble_eq_true rfl) dX6_does_186 (Nat.le_refl 0) (Nat.le_refl 0) (fun r42 S40 M41 H locs hF hH => ?_)
      exact zm_iret X hH rfl rfl hF dX6_does_189
    · have hF := hF.2.2.2.2.2.2.2.2.2.2.2.2.2.1 hk
      refine lv_tableIn (tgt := 190) hx hb dX6_does_1 (by rw [hk]; decide) (by rw [hk]; decide) (by rw [hk]; rfl) (by decide) ?_
      refine lv_aload_n hx hb dX6_does_190 rfl (lv_at hl 0 rfl) ?_
      refine lv_iload_n hx hb dX6_does_191 rfl (lv_at hl 2 rfl) ?_
      refine lv_iconst (v := 0) hx hb dX6_does_192 (by decide) ?_
      refine zm_calli (As := [.int v2, .int 0]) (rest := []) X hH (wm_actTakes l D cI cZ ad o X.2.2.2.2.2.2.2.2 S M v2 0 _ hF) (cwV 2 X.2.2.2.2.1 (lw_V q2003 q2005 qs60 q95 q2006) rfl rfl rfl (by decide +kernel) ⟨Nat.le_of_ble_eq_true rfl, Nat.le_of_ble_eq_true rfl⟩) rfl hl.1 rfl (Nat.le_of_ble_eq_true rfl) dX6_does_193 (Nat.le_refl 0) (Nat.le_refl 0) (fun r45 S43 M44 H locs hF hH => ?_)
      exact zm_iret X hH rfl rfl hF dX6_does_196
    · have hF := hF.2.2.2.2.2.2.2.2.2.2.2.2.2.2.1 hk
      refine lv_tableIn (tgt := 197) hx hb dX6_does_1 (by rw [hk]; decide) (by rw [hk]; decide) (by rw [hk]; rfl) (by decide) ?_
      refine lv_aload_n hx hb dX6_does_197 rfl (lv_at hl 0 rfl) ?_
      refine lv_iload_n hx hb dX6_does_198 rfl (lv_at hl 2 rfl) ?_
      refine lv_iload_n hx hb dX6_does_199 rfl (lv_at hl 3 rfl) ?_
      refine lv_iload hx hb dX6_does_200 (lv_at hl 4 rfl) ?_
      refine lv_iload hx hb dX6_does_202 (lv_at hl 5 rfl) ?_
      refine zm_calli (As := [.int v2, .int v3, .int v4, .int v5]) (rest := []) X hH (wm_actBury l D cI cZ ad o X.2.2.2.2.2.2.2.2 S M v2 v3 v4 v5 _ hF) (cwV 4 X.2.2.2.2.1 (lw_V q2007 q2009 qs61 q95 q2010) rfl rfl rfl (by decide +kernel) ⟨Nat.le_of_ble_eq_true rfl, Nat.le_of_ble_eq_true rfl⟩) rfl hl.1 rfl (Nat.le_of_ble_eq_true rfl) dX6_does_204 (Nat.le_refl 0) (Nat.le_refl 0) (fun r48 S46 M47 H locs hF hH => ?_)
      exact zm_iret X hH rfl rfl hF dX6_does_207
    · have hF := hF.2.2.2.2.2.2.2.2.2.2.2.2.2.2.2.1 hk
      refine lv_tableIn (tgt := 208) hx hb dX6_does_1 (by rw [hk]; decide) (by rw [hk]; decide) (by rw [hk]; rfl) (by decide) ?_
      refine lv_aload_n hx hb dX6_does_208 rfl (lv_at hl 0 rfl) ?_
      refine lv_iload_n hx hb dX6_does_209 rfl (lv_at hl 2 rfl) ?_
      refine lv_iload_n hx hb dX6_does_210 rfl (lv_at hl 3 rfl) ?_
      refine lv_iload hx hb dX6_does_211 (lv_at hl 4 rfl) ?_
      refine lv_iload hx hb dX6_does_213 (lv_at hl 5 rfl) ?_
      refine zm_calli (As := [.int v2, .int v3, .int v4, .int v5]) (rest := []) X hH (wm_actMove l D cI cZ ad o X.2.2.2.2.2.2.2.2 S M v2 v3 v4 v5 _ hF) (cwV 4 X.2.2.2.2.1 (lw_V q2051 q2053 qs72 q95 q2054) rfl rfl rfl (by decide +kernel) ⟨Nat.le_of_ble_eq_true rfl, Nat.le_of_ble_eq_true rfl⟩) rfl hl.1 rfl (Nat.le_of_ble_eq_true rfl) dX6_does_215 (Nat.le_refl 0) (Nat.le_refl 0) (fun r51 S49 M50 H locs hF hH => ?_)
      exact zm_iret X hH rfl rfl hF dX6_does_218
    · have hF := hF.2.2.2.2.2.2.2.2.2.2.2.2.2.2.2.2 hk
      refine lv_tableIn (tgt := 219) hx hb dX6_does_1 (by rw [hk]; decide) (by rw [hk]; decide) (by rw [hk]; rfl) (by decide) ?_
      refine lv_aload_n hx hb dX6_does_219 rfl (lv_at hl 0 rfl) ?_
      refine lv_iload_n hx hb dX6_does_220 rfl (lv_at hl 2 rfl) ?_
      refine zm_calli (As := [.int v2]) (rest := []) X hH (wm_actClear l D cI cZ ad o X.2.2.2.2.2.2.2.2 S M v2 _ hF) (cwV 1 X.2.2.2.2.1 (lw_V q2055 q2057 qs73 q95 q2058) rfl rfl rfl (by decide +kernel) ⟨Nat.le_of_ble_eq_true rfl, Nat.le_of_ble_eq_true rfl⟩) rfl hl.1 rfl (Nat.le_of_ble_eq_true rfl) dX6_does_221 (Nat.le_refl 0) (Nat.le_refl 0) (fun r54 S52 M53 H locs hF hH => ?_)
      exact zm_iret X hH rfl rfl hF dX6_does_224
set_option maxHeartbeats 4000000 in
set_option maxRecDepth 100000 in
/-- call: what the bytecode asks is what its run needs -/
theorem wm_call (l : Launch) (D : va_G) (cI cZ : ClassId) (ad : Nat → Nat) (o : Nat) (hAd : zm_Ad ad o) (S : Nat → Int32) (M : Nat → Nat → Int32) (v1 : Int32) (v2 : Int32) (v3 : Int32) (v4 : Int32) (v5 : Int32) (v6 : Int32) (Q : Int32 → (Nat → Int32) → (Nat → Nat → Int32) → Prop) (hF : fm_call S M v1 v2 v3 v4 v5 v6 Q) :
    zm_Mi l yX6_call (ws_ yX6_call cX6_call 9 (some .int)) 6 D cI cZ ad o [.int v1, .int v2, .int v3, .int v4, .int v5, .int v6] S M Q := by
  refine zm_ofi rfl hAd (Nat.le_of_ble_eq_true rfl) ?_
  intro p e s m args below meth c H locs ls X hH hl
  have hx := X.1
  have hb := X.2.1
  have hl : lv_has ls 9 [(0, .ref o), (1, .int v1), (2, .int v2), (3, .int v3), (4, .int v4), (5, .int v5), (6, .int v6)] := hl
  unfold fm_call at hF
  refine lv_aload_n hx hb dX6_call_0 rfl (lv_at hl 0 rfl) ?_
  refine lv_iconst (v := 0) hx hb dX6_call_1 (by decide) ?_
  refine zm_puti X hH 0 (by decide) rfl rfl (by decide +kernel) q1713 dX6_call_2 (fun S1 H locs eS1 hH => ?_)
  have hF := hF S1 eS1
  refine lv_aload_n hx hb dX6_call_5 rfl (lv_at hl 0 rfl) ?_
  refine zm_getf X hH 45 (by decide) rfl q1758 dX6_call_6 ?_
  refine lv_sipush (v := 400) hx hb dX6_call_9 (by decide) ?_
  refine lv_icmp_ne (tgt := 18) hx hb dX6_call_12 (by decide) (fun cd => ?_) (fun cd => ?_)
  · have hF := hF.1 cd
    refine lv_aload_n hx hb dX6_call_18 rfl (lv_at hl 0 rfl) ?_
    refine lv_iload_n hx hb dX6_call_19 rfl (lv_at hl 1 rfl) ?_
    refine lv_iload_n hx hb dX6_call_20 rfl (lv_at hl 2 rfl) ?_
    refine lv_iload_n hx hb dX6_call_21 rfl (lv_at hl 3 rfl) ?_
    refine lv_iload hx hb dX6_call_22 (lv_at hl 4 rfl) ?_
    refine lv_iload hx hb dX6_call_24 (lv_at hl 5 rfl) ?_
    refine lv_iload hx hb dX6_call_26 (lv_at hl 6 rfl) ?_
    refine zm_calli (As := [.int v1, .int v2, .int v3, .int v4, .int v5, .int v6]) (rest := []) X hH (wm_does l D cI cZ ad o X.2.2.2.2.2.2.2.2 S1 M v1 v2 v3 v4 v5 v6 _ hF) (cwV 6 X.2.2.2.2.1 (lw_V q1876 q1878 qs29 q95 q1879) rfl rfl rfl (by decide +kernel) ⟨Nat.le_of_ble_eq_true rfl, Nat.le_of_ble_eq_true rfl⟩) rfl hl.1 rfl (Nat.le_of_ble_eq_true rfl) dX6_call_28 (Nat.le_refl 0) (Nat.le_refl 0) (fun r4 S2 M3 H locs hF hH => ?_)
    refine lv_istore (lv' := [(7, .int r4), (0, .ref o), (1, .int v1), (2, .int v2), (3, .int v3), (4, .int v4), (5, .int v5), (6, .int v6)]) hx hb dX6_call_31 hl (by decide) rfl (fun ls hl => ?_)
    refine lv_iload hx hb dX6_call_33 (lv_at hl 0 rfl) ?_
    refine lv_if_ge (tgt := 41) hx hb dX6_call_35 (by decide) (fun cd => ?_) (fun cd => ?_)
    · have hF := hF.1 cd
      refine lv_bipush (v := 6) hx hb dX6_call_41 (by decide) ?_
      refine lv_aload_n hx hb dX6_call_43 rfl (lv_at hl 1 rfl) ?_
      refine zm_getf X hH 45 (by decide) rfl q1758 dX6_call_44 ?_
      refine lv_imul hx hb dX6_call_47 ?_
      refine lv_topi (fun x5 ex5 => ?_)
      have hF := hF x5 ex5
      refine lv_istore (lv' := [(8, .int x5), (7, .int r4), (0, .ref o), (1, .int v1), (2, .int v2), (3, .int v3), (4, .int v4), (5, .int v5), (6, .int v6)]) hx hb dX6_call_48 hl (by decide) rfl (fun ls hl => ?_)
      refine lv_aload_n hx hb dX6_call_50 rfl (lv_at hl 2 rfl) ?_
      refine zm_getf X hH 46 (by decide) rfl q1759 dX6_call_51 ?_
      refine lv_iload hx hb dX6_call_54 (lv_at hl 0 rfl) ?_
      refine lv_iload_n hx hb dX6_call_56 rfl (lv_at hl 3 rfl) ?_
      obtain ⟨hI, hF⟩ := hF
      refine zm_iast X hH 46 (by decide) rfl (n := 2400) rfl hI dX6_call_57 (fun M6 H locs eM6 hH => ?_)
      have hF := hF M6 eM6
      refine lv_aload_n hx hb dX6_call_58 rfl (lv_at hl 2 rfl) ?_
      refine zm_getf X hH 46 (by decide) rfl q1759 dX6_call_59 ?_
      refine lv_iload hx hb dX6_call_62 (lv_at hl 0 rfl) ?_
      refine lv_iconst (v := 1) hx hb dX6_call_64 (by decide) ?_
      refine lv_iadd hx hb dX6_call_65 ?_
      refine lv_iload_n hx hb dX6_call_66 rfl (lv_at hl 4 rfl) ?_
      obtain ⟨hI, hF⟩ := hF
      refine zm_iast X hH 46 (by decide) rfl (n := 2400) rfl hI dX6_call_67 (fun M7 H locs eM7 hH => ?_)
      have hF := hF M7 eM7
      refine lv_aload_n hx hb dX6_call_68 rfl (lv_at hl 2 rfl) ?_
      refine zm_getf X hH 46 (by decide) rfl q1759 dX6_call_69 ?_
      refine lv_iload hx hb dX6_call_72 (lv_at hl 0 rfl) ?_
      refine lv_iconst (v := 2) hx hb dX6_call_74 (by decide) ?_
      refine lv_iadd hx hb dX6_call_75 ?_
      refine lv_iload_n hx hb dX6_call_76 rfl (lv_at hl 5 rfl) ?_
      obtain ⟨hI, hF⟩ := hF
      refine zm_iast X hH 46 (by decide) rfl (n := 2400) rfl hI dX6_call_77 (fun M8 H locs eM8 hH => ?_)
      have hF := hF M8 eM8
      refine lv_aload_n hx hb dX6_call_78 rfl (lv_at hl 2 rfl) ?_
      refine zm_getf X hH 46 (by decide) rfl q1759 dX6_call_79 ?_
      refine lv_iload hx hb dX6_call_82 (lv_at hl 0 rfl) ?_
      refine lv_iconst (v := 3) hx hb dX6_call_84 (by decide) ?_
      refine lv_iadd hx hb dX6_call_85 ?_
      refine lv_iload hx hb dX6_call_86 (lv_at hl 6 rfl) ?_
      obtain ⟨hI, hF⟩ := hF
      refine zm_iast X hH 46 (by decide) rfl (n := 2400) rfl hI dX6_call_88 (fun M9 H locs eM9 hH => ?_)
      have hF := hF M9 eM9
      refine lv_aload_n hx hb dX6_call_89 rfl (lv_at hl 2 rfl) ?_
      refine zm_getf X hH 46 (by decide) rfl q1759 dX6_call_90 ?_
      refine lv_iload hx hb dX6_call_93 (lv_at hl 0 rfl) ?_
      refine lv_iconst (v := 4) hx hb dX6_call_95 (by decide) ?_
      refine lv_iadd hx hb dX6_call_96 ?_
      refine lv_iload hx hb dX6_call_97 (lv_at hl 7 rfl) ?_
      obtain ⟨hI, hF⟩ := hF
      refine zm_iast X hH 46 (by decide) rfl (n := 2400) rfl hI dX6_call_99 (fun M10 H locs eM10 hH => ?_)
      have hF := hF M10 eM10
      refine lv_aload_n hx hb dX6_call_100 rfl (lv_at hl 2 rfl) ?_
      refine zm_getf X hH 46 (by decide) rfl q1759 dX6_call_101 ?_
      refine lv_iload hx hb dX6_call_104 (lv_at hl 0 rfl) ?_
      refine lv_iconst (v := 5) hx hb dX6_call_106 (by decide) ?_
      refine lv_iadd hx hb dX6_call_107 ?_
      refine lv_iload hx hb dX6_call_108 (lv_at hl 8 rfl) ?_
      obtain ⟨hI, hF⟩ := hF
      refine zm_iast X hH 46 (by decide) rfl (n := 2400) rfl hI dX6_call_110 (fun M11 H locs eM11 hH => ?_)
      have hF := hF M11 eM11
      refine lv_aload_n hx hb dX6_call_111 rfl (lv_at hl 2 rfl) ?_
      refine lv_dup hx hb dX6_call_112 rfl ?_
      refine zm_getf X hH 45 (by decide) rfl q1758 dX6_call_113 ?_
      refine lv_iconst (v := 1) hx hb dX6_call_116 (by decide) ?_
      refine lv_iadd hx hb dX6_call_117 ?_
      refine zm_puti X hH 45 (by decide) rfl rfl (by decide +kernel) q1758 dX6_call_118 (fun S12 H locs eS12 hH => ?_)
      have hF := hF S12 eS12
      refine lv_iload hx hb dX6_call_121 (lv_at hl 1 rfl) ?_
      exact zm_iret X hH rfl rfl hF dX6_call_123
    · have hF := hF.2 cd
      refine lv_iload hx hb dX6_call_38 (lv_at hl 0 rfl) ?_
      exact zm_iret X hH rfl rfl hF dX6_call_40
  · have hF := hF.2 cd
    refine lv_bipush (v := (-9)) hx hb dX6_call_15 (by decide) ?_
    exact zm_iret X hH rfl rfl hF dX6_call_17
