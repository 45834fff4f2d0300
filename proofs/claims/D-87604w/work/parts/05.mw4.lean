/-! THE MODEL SIDE: the walks, printed by gen_model.py -/
set_option maxRecDepth 100000
set_option maxHeartbeats 4000000 in
set_option maxRecDepth 100000 in
theorem wm_look_154 {p : Program} {l : Launch} {e : Env} {s : State} {m : MethodId} {args : Array Value} {below : List Frame} {meth : Method} {c : Code} {D : va_G} {cI cZ : ClassId} {ad : Nat → Nat} {o : Nat} {Q : Int32 → (Nat → Int32) → (Nat → Nat → Int32) → Prop} (X : zm_Cx p s m args meth c cX6_look 8 (some .int) D cI cZ ad o) :
    ∀ (S : Nat → Int32) (M : Nat → Nat → Int32) (v1 : Int32), fm_look_154 Q S M v1 → ∀ (H : Heap) (locs : List Loc) (ls : Array Slot), lv_has ls 8 [(0, .ref o), (1, .int v1)] → zm_H D cI cZ ad o S M s H locs → W p l e (zm_R 1) s m args below meth c H locs 0 0 (MQ below (zm_QS Q D cI cZ ad o) args s 0 0 (zm_A ad o)) (F0 m 154 ls []) := by
  have hx := X.1
  have hb := X.2.1
  intro S M v1 hF
  intro H locs ls hl hH
  unfold fm_look_154 at hF
  refine lv_aload_n hx hb dX6_look_154 rfl (lv_at hl 0 rfl) ?_
  refine zm_getf X hH 13 (by decide) rfl q1726 dX6_look_155 ?_
  refine lv_iload_n hx hb dX6_look_158 rfl (lv_at hl 1 rfl) ?_
  obtain ⟨hI, hF⟩ := hF
  refine zm_iald X hH 13 (by decide) rfl (n := 150) rfl hI dX6_look_159 ?_
  refine lv_goto (tgt := 164) hx hb dX6_look_160 (by decide) ?_
  exact zm_iret X hH rfl rfl hF dX6_look_164
set_option maxHeartbeats 4000000 in
set_option maxRecDepth 100000 in
theorem wm_look_61 {p : Program} {l : Launch} {e : Env} {s : State} {m : MethodId} {args : Array Value} {below : List Frame} {meth : Method} {c : Code} {D : va_G} {cI cZ : ClassId} {ad : Nat → Nat} {o : Nat} {Q : Int32 → (Nat → Int32) → (Nat → Nat → Int32) → Prop} (X : zm_Cx p s m args meth c cX6_look 8 (some .int) D cI cZ ad o) :
    ∀ (S : Nat → Int32) (M : Nat → Nat → Int32) (v1 : Int32) (v2 : Int32) (v3 : Int32) (t0 : Int32), fm_look_61 Q S M v1 v2 v3 t0 → ∀ (H : Heap) (locs : List Loc) (ls : Array Slot), lv_has ls 8 [(0, .ref o), (1, .int v1), (2, .int v2), (3, .int v3)] → zm_H D cI cZ ad o S M s H locs → W p l e (zm_R 1) s m args below meth c H locs 0 0 (MQ below (zm_QS Q D cI cZ ad o) args s 0 0 (zm_A ad o)) (F0 m 61 ls [.int t0]) := by
  have hx := X.1
  have hb := X.2.1
  intro S M v1 v2 v3 t0 hF
  intro H locs ls hl hH
  unfold fm_look_61 at hF
  refine lv_istore (lv' := [(4, .int t0), (0, .ref o), (1, .int v1), (2, .int v2), (3, .int v3)]) hx hb dX6_look_61 hl (by decide) rfl (fun ls hl => ?_)
  refine lv_iload_n hx hb dX6_look_63 rfl (lv_at hl 3 rfl) ?_
  by_cases hsw : v2.toInt < 0 ∨ 8 < v2.toInt
  · have hF := hF.1 hsw
    refine lv_tableOut (tgt := 224) hx hb dX6_look_64 hsw (by decide) ?_
    refine lv_iconst (v := 0) hx hb dX6_look_224 (by decide) ?_
    refine lv_istore (lv' := [(5, .int 0), (4, .int t0), (0, .ref o), (1, .int v1), (2, .int v2), (3, .int v3)]) hx hb dX6_look_225 hl (by decide) rfl (fun ls hl => ?_)
    refine lv_iconst (v := 0) hx hb dX6_look_227 (by decide) ?_
    refine lv_istore (lv' := [(6, .int 0), (5, .int 0), (4, .int t0), (0, .ref o), (1, .int v1), (2, .int v2), (3, .int v3)]) hx hb dX6_look_228 hl (by decide) rfl (fun ls hl => ?_)
    refine lv_iconst (v := 0) hx hb dX6_look_230 (by decide) ?_
    refine lv_istore (lv' := [(7, .int 0), (6, .int 0), (5, .int 0), (4, .int t0), (0, .ref o), (1, .int v1), (2, .int v2), (3, .int v3)]) hx hb dX6_look_231 hl (by decide) rfl (fun ls hl => ?_)
    obtain ⟨n9, hF⟩ := hF
    exact wm_look_233 X n9 S M v1 v2 0 0 0 hF _ _ _ (lv_sub hl [4, 5, 6, 2, 1, 0] rfl) hH
  · have hF := hF.2
    have hsw2 : v2.toInt = 0 ∨ v2.toInt = 1 ∨ v2.toInt = 2 ∨ v2.toInt = 3 ∨ v2.toInt = 4 ∨ v2.toInt = 5 ∨ v2.toInt = 6 ∨ v2.toInt = 7 ∨ v2.toInt = 8 := by omega
    rcases hsw2 with hk | hk | hk | hk | hk | hk | hk | hk | hk
    · have hF := hF.1 hk
      refine lv_tableIn (tgt := 116) hx hb dX6_look_64 (by rw [hk]; decide) (by rw [hk]; decide) (by rw [hk]; rfl) (by decide) ?_
      refine lv_aload_n hx hb dX6_look_116 rfl (lv_at hl 1 rfl) ?_
      refine zm_getf X hH 10 (by decide) rfl q1723 dX6_look_117 ?_
      refine lv_iload_n hx hb dX6_look_120 rfl (lv_at hl 2 rfl) ?_
      obtain ⟨hI, hF⟩ := hF
      refine zm_iald X hH 10 (by decide) rfl (n := 150) rfl hI dX6_look_121 ?_
      exact zm_iret X hH rfl rfl hF dX6_look_122
    · have hF := hF.2.1 hk
      refine lv_tableIn (tgt := 123) hx hb dX6_look_64 (by rw [hk]; decide) (by rw [hk]; decide) (by rw [hk]; rfl) (by decide) ?_
      refine lv_aload_n hx hb dX6_look_123 rfl (lv_at hl 1 rfl) ?_
      refine zm_getf X hH 11 (by decide) rfl q1724 dX6_look_124 ?_
      refine lv_iload_n hx hb dX6_look_127 rfl (lv_at hl 2 rfl) ?_
      obtain ⟨hI, hF⟩ := hF
      refine zm_iald X hH 11 (by decide) rfl (n := 150) rfl hI dX6_look_128 ?_
      exact zm_iret X hH rfl rfl hF dX6_look_129
    · have hF := hF.2.2.1 hk
      refine lv_tableIn (tgt := 130) hx hb dX6_look_64 (by rw [hk]; decide) (by rw [hk]; decide) (by rw [hk]; rfl) (by decide) ?_
      refine lv_iload_n hx hb dX6_look_130 rfl (lv_at hl 4 rfl) ?_
      refine lv_if_eq (tgt := 143) hx hb dX6_look_131 (by decide) (fun cd => ?_) (fun cd => ?_)
      · have hF := hF.1 cd
        refine lv_iconst (v := (-1)) hx hb dX6_look_143 (by decide) ?_
        exact zm_iret X hH rfl rfl hF dX6_look_144
      · have hF := hF.2 cd
        refine lv_aload_n hx hb dX6_look_134 rfl (lv_at hl 1 rfl) ?_
        refine zm_getf X hH 12 (by decide) rfl q1725 dX6_look_135 ?_
        refine lv_iload_n hx hb dX6_look_138 rfl (lv_at hl 2 rfl) ?_
        obtain ⟨hI, hF⟩ := hF
        refine zm_iald X hH 12 (by decide) rfl (n := 150) rfl hI dX6_look_139 ?_
        refine lv_goto (tgt := 144) hx hb dX6_look_140 (by decide) ?_
        exact zm_iret X hH rfl rfl hF dX6_look_144
    · have hF := hF.2.2.2.1 hk
      refine lv_tableIn (tgt := 145) hx hb dX6_look_64 (by rw [hk]; decide) (by rw [hk]; decide) (by rw [hk]; rfl) (by decide) ?_
      refine lv_iload_n hx hb dX6_look_145 rfl (lv_at hl 4 rfl) ?_
      refine lv_if_ne (tgt := 154) hx hb dX6_look_146 (by decide) (fun cd => ?_) (fun cd => ?_)
      · have hF := hF.1 cd
        exact wm_look_154 X S M v1 hF _ _ _ (lv_sub hl [1, 2] rfl) hH
      · have hF := hF.2 cd
        refine lv_iload hx hb dX6_look_149 (lv_at hl 0 rfl) ?_
        refine lv_if_eq (tgt := 163) hx hb dX6_look_151 (by decide) (fun cd => ?_) (fun cd => ?_)
        · have hF := hF.1 cd
          refine lv_iconst (v := 0) hx hb dX6_look_163 (by decide) ?_
          exact zm_iret X hH rfl rfl hF dX6_look_164
        · have hF := hF.2 cd
          exact wm_look_154 X S M v1 hF _ _ _ (lv_sub hl [1, 2] rfl) hH
    · have hF := hF.2.2.2.2.1 hk
      refine lv_tableIn (tgt := 165) hx hb dX6_look_64 (by rw [hk]; decide) (by rw [hk]; decide) (by rw [hk]; rfl) (by decide) ?_
      refine lv_iload hx hb dX6_look_165 (lv_at hl 0 rfl) ?_
      refine lv_if_eq (tgt := 179) hx hb dX6_look_167 (by decide) (fun cd => ?_) (fun cd => ?_)
      · have hF := hF.1 cd
        refine lv_iconst (v := (-1)) hx hb dX6_look_179 (by decide) ?_
        exact zm_iret X hH rfl rfl hF dX6_look_180
      · have hF := hF.2 cd
        refine lv_aload_n hx hb dX6_look_170 rfl (lv_at hl 1 rfl) ?_
        refine zm_getf X hH 14 (by decide) rfl q1727 dX6_look_171 ?_
        refine lv_iload_n hx hb dX6_look_174 rfl (lv_at hl 2 rfl) ?_
        obtain ⟨hI, hF⟩ := hF
        refine zm_iald X hH 14 (by decide) rfl (n := 150) rfl hI dX6_look_175 ?_
        refine lv_goto (tgt := 180) hx hb dX6_look_176 (by decide) ?_
        exact zm_iret X hH rfl rfl hF dX6_look_180
    · have hF := hF.2.2.2.2.2.1 hk
      refine lv_tableIn (tgt := 181) hx hb dX6_look_64 (by rw [hk]; decide) (by rw [hk]; decide) (by rw [hk]; rfl) (by decide) ?_
      refine lv_iload hx hb dX6_look_181 (lv_at hl 0 rfl) ?_
      refine lv_if_eq (tgt := 195) hx hb dX6_look_183 (by decide) (fun cd => ?_) (fun cd => ?_)
      · have hF := hF.1 cd
        refine lv_iconst (v := 0) hx hb dX6_look_195 (by decide) ?_
        exact zm_iret X hH rfl rfl hF dX6_look_196
      · have hF := hF.2 cd
        refine lv_aload_n hx hb dX6_look_186 rfl (lv_at hl 1 rfl) ?_
        refine zm_getf X hH 15 (by decide) rfl q1728 dX6_look_187 ?_
        refine lv_iload_n hx hb dX6_look_190 rfl (lv_at hl 2 rfl) ?_
        obtain ⟨hI, hF⟩ := hF
        refine zm_iald X hH 15 (by decide) rfl (n := 150) rfl hI dX6_look_191 ?_
        refine lv_goto (tgt := 196) hx hb dX6_look_192 (by decide) ?_
        exact zm_iret X hH rfl rfl hF dX6_look_196
    · have hF := hF.2.2.2.2.2.2.1 hk
      refine lv_tableIn (tgt := 197) hx hb dX6_look_64 (by rw [hk]; decide) (by rw [hk]; decide) (by rw [hk]; rfl) (by decide) ?_
      refine lv_aload_n hx hb dX6_look_197 rfl (lv_at hl 1 rfl) ?_
      refine zm_getf X hH 16 (by decide) rfl q1729 dX6_look_198 ?_
      refine lv_iload_n hx hb dX6_look_201 rfl (lv_at hl 2 rfl) ?_
      obtain ⟨hI, hF⟩ := hF
      refine zm_iald X hH 16 (by decide) rfl (n := 150) rfl hI dX6_look_202 ?_
      refine lv_bipush (v := 12) hx hb dX6_look_203 (by decide) ?_
      refine lv_idiv hx hb dX6_look_205 (by decide) ?_
      exact zm_iret X hH rfl rfl hF dX6_look_206
    · have hF := hF.2.2.2.2.2.2.2.1 hk
      refine lv_tableIn (tgt := 207) hx hb dX6_look_64 (by rw [hk]; decide) (by rw [hk]; decide) (by rw [hk]; rfl) (by decide) ?_
      refine lv_aload_n hx hb dX6_look_207 rfl (lv_at hl 1 rfl) ?_
      refine zm_getf X hH 16 (by decide) rfl q1729 dX6_look_208 ?_
      refine lv_iload_n hx hb dX6_look_211 rfl (lv_at hl 2 rfl) ?_
      obtain ⟨hI, hF⟩ := hF
      refine zm_iald X hH 16 (by decide) rfl (n := 150) rfl hI dX6_look_212 ?_
      refine lv_bipush (v := 12) hx hb dX6_look_213 (by decide) ?_
      refine lv_irem hx hb dX6_look_215 (by decide) ?_
      exact zm_iret X hH rfl rfl hF dX6_look_216
    · have hF := hF.2.2.2.2.2.2.2.2 hk
      refine lv_tableIn (tgt := 217) hx hb dX6_look_64 (by rw [hk]; decide) (by rw [hk]; decide) (by rw [hk]; rfl) (by decide) ?_
      refine lv_aload_n hx hb dX6_look_217 rfl (lv_at hl 1 rfl) ?_
      refine zm_getf X hH 17 (by decide) rfl q1730 dX6_look_218 ?_
      refine lv_iload_n hx hb dX6_look_221 rfl (lv_at hl 2 rfl) ?_
      obtain ⟨hI, hF⟩ := hF
      refine zm_iald X hH 17 (by decide) rfl (n := 150) rfl hI dX6_look_222 ?_
      exact zm_iret X hH rfl rfl hF dX6_look_223
set_option maxHeartbeats 4000000 in
set_option maxRecDepth 100000 in
theorem wm_look_45 {p : Program} {l : Launch} {e : Env} {s : State} {m : MethodId} {args : Array Value} {below : List Frame} {meth : Method} {c : Code} {D : va_G} {cI cZ : ClassId} {ad : Nat → Nat} {o : Nat} {Q : Int32 → (Nat → Int32) → (Nat → Nat → Int32) → Prop} (X : zm_Cx p s m args meth c cX6_look 8 (some .int) D cI cZ ad o) :
    ∀ (S : Nat → Int32) (M : Nat → Nat → Int32) (v1 : Int32) (v2 : Int32) (t0 : Int32), fm_look_45 Q S M v1 v2 t0 → ∀ (H : Heap) (locs : List Loc) (ls : Array Slot), lv_has ls 8 [(0, .ref o), (1, .int v1), (2, .int v2)] → zm_H D cI cZ ad o S M s H locs → W p l e (zm_R 1) s m args below meth c H locs 0 0 (MQ below (zm_QS Q D cI cZ ad o) args s 0 0 (zm_A ad o)) (F0 m 45 ls [.int t0]) := by
  have hx := X.1
  have hb := X.2.1
  intro S M v1 v2 t0 hF
  intro H locs ls hl hH
  unfold fm_look_45 at hF
  refine lv_istore_n (lv' := [(3, .int t0), (0, .ref o), (1, .int v1), (2, .int v2)]) hx hb dX6_look_45 rfl hl (by decide) rfl (fun ls hl => ?_)
  refine lv_aload_n hx hb dX6_look_46 rfl (lv_at hl 1 rfl) ?_
  refine zm_getf X hH 11 (by decide) rfl q1724 dX6_look_47 ?_
  refine lv_iload_n hx hb dX6_look_50 rfl (lv_at hl 2 rfl) ?_
  obtain ⟨hI, hF⟩ := hF
  refine zm_iald X hH 11 (by decide) rfl (n := 150) rfl hI dX6_look_51 ?_
  refine lv_iconst (v := 2) hx hb dX6_look_52 (by decide) ?_
  refine lv_icmp_ne (tgt := 60) hx hb dX6_look_53 (by decide) (fun cd => ?_) (fun cd => ?_)
  · have hF := hF.1 cd
    refine lv_iconst (v := 0) hx hb dX6_look_60 (by decide) ?_
    exact wm_look_61 X S M v1 v2 t0 0 hF _ _ _ (lv_sub hl [1, 2, 3, 0] rfl) hH
  · have hF := hF.2 cd
    refine lv_iconst (v := 1) hx hb dX6_look_56 (by decide) ?_
    refine lv_goto (tgt := 61) hx hb dX6_look_57 (by decide) ?_
    exact wm_look_61 X S M v1 v2 t0 1 hF _ _ _ (lv_sub hl [1, 2, 3, 0] rfl) hH
set_option maxHeartbeats 4000000 in
set_option maxRecDepth 100000 in
theorem wm_look_23 {p : Program} {l : Launch} {e : Env} {s : State} {m : MethodId} {args : Array Value} {below : List Frame} {meth : Method} {c : Code} {D : va_G} {cI cZ : ClassId} {ad : Nat → Nat} {o : Nat} {Q : Int32 → (Nat → Int32) → (Nat → Nat → Int32) → Prop} (X : zm_Cx p s m args meth c cX6_look 8 (some .int) D cI cZ ad o) :
    ∀ (S : Nat → Int32) (M : Nat → Nat → Int32), fm_look_23 Q S M → ∀ (H : Heap) (locs : List Loc) (ls : Array Slot), lv_has ls 8 [(0, .ref o)] → zm_H D cI cZ ad o S M s H locs → W p l e (zm_R 1) s m args below meth c H locs 0 0 (MQ below (zm_QS Q D cI cZ ad o) args s 0 0 (zm_A ad o)) (F0 m 23 ls []) := by
  have hx := X.1
  have hb := X.2.1
  intro S M hF
  intro H locs ls hl hH
  unfold fm_look_23 at hF
  refine lv_aload_n hx hb dX6_look_23 rfl (lv_at hl 0 rfl) ?_
  refine lv_iconst (v := 1) hx hb dX6_look_24 (by decide) ?_
  refine zm_puti X hH 0 (by decide) rfl rfl (by decide +kernel) q1713 dX6_look_25 (fun S1 H locs eS1 hH => ?_)
  have hF := hF S1 eS1
  refine lv_iconst (v := 0) hx hb dX6_look_28 (by decide) ?_
  exact zm_iret X hH rfl rfl hF dX6_look_29
set_option maxHeartbeats 4000000 in
set_option maxRecDepth 100000 in
/-- look: what the bytecode asks is what its run needs -/
theorem wm_look (l : Launch) (D : va_G) (cI cZ : ClassId) (ad : Nat → Nat) (o : Nat) (hAd : zm_Ad ad o) (S : Nat → Int32) (M : Nat → Nat → Int32) (v1 : Int32) (v2 : Int32) (Q : Int32 → (Nat → Int32) → (Nat → Nat → Int32) → Prop) (hF : fm_look S M v1 v2 Q) :
    zm_Mi l yX6_look (ws_ yX6_look cX6_look 8 (some .int)) 1 D cI cZ ad o [.int v1, .int v2] S M Q := by
  refine zm_ofi rfl hAd (Nat.le_of_ble_eq_true rfl) ?_
  intro p e s m args below meth c H locs ls X hH hl
  have hx := X.1
  have hb := X.2.1
  have hl : lv_has ls 8 [(0, .ref o), (1, .int v1), (2, .int v2)] := hl
  unfold fm_look at hF
  refine lv_aload_n hx hb dX6_look_0 rfl (lv_at hl 0 rfl) ?_
  refine lv_iconst (v := 0) hx hb dX6_look_1 (by decide) ?_
  refine zm_puti X hH 0 (by decide) rfl rfl (by decide +kernel) q1713 dX6_look_2 (fun S1 H locs eS1 hH => ?_)
  have hF := hF S1 eS1
  refine lv_aload_n hx hb dX6_look_5 rfl (lv_at hl 0 rfl) ?_
  refine lv_iload_n hx hb dX6_look_6 rfl (lv_at hl 1 rfl) ?_
  refine zm_calli (As := [.int v1]) (rest := []) X hH (wm_isGrave l D cI cZ ad o X.2.2.2.2.2.2.2.2 S1 M v1 _ hF) (cwV 1 X.2.2.2.2.1 (lw_V q1953 q1955 qs48 q95 q1956) rfl rfl rfl (by decide +kernel) ⟨Nat.le_of_ble_eq_true rfl, Nat.le_of_ble_eq_true rfl⟩) rfl hl.1 rfl (Nat.le_of_ble_eq_true rfl) dX6_look_7 (Nat.le_refl 0) (Nat.le_refl 0) (fun r4 S2 M3 H locs hF hH => ?_)
  obtain ⟨hF, e9, e8⟩ := hF; subst e9; subst e8
  refine lv_if_eq (tgt := 23) hx hb dX6_look_10 (by decide) (fun cd => ?_) (fun cd => ?_)
  · have hF := hF.1 cd
    exact wm_look_23 X S1 M hF _ _ _ (lv_sub hl [0] rfl) hH
  · have hF := hF.2 cd
    refine lv_iload_n hx hb dX6_look_13 rfl (lv_at hl 2 rfl) ?_
    refine lv_if_lt (tgt := 23) hx hb dX6_look_14 (by decide) (fun cd => ?_) (fun cd => ?_)
    · have hF := hF.1 cd
      exact wm_look_23 X S1 M hF _ _ _ (lv_sub hl [0] rfl) hH
    · have hF := hF.2 cd
      refine lv_iload_n hx hb dX6_look_17 rfl (lv_at hl 2 rfl) ?_
      refine lv_bipush (v := 10) hx hb dX6_look_18 (by decide) ?_
      refine lv_icmp_le (tgt := 30) hx hb dX6_look_20 (by decide) (fun cd => ?_) (fun cd => ?_)
      · have hF := hF.1 cd
        refine lv_aload_n hx hb dX6_look_30 rfl (lv_at hl 0 rfl) ?_
        refine zm_getf X hH 11 (by decide) rfl q1724 dX6_look_31 ?_
        refine lv_iload_n hx hb dX6_look_34 rfl (lv_at hl 1 rfl) ?_
        obtain ⟨hI, hF⟩ := hF
        refine zm_iald X hH 11 (by decide) rfl (n := 150) rfl hI dX6_look_35 ?_
        refine lv_iconst (v := 1) hx hb dX6_look_36 (by decide) ?_
        refine lv_icmp_ne (tgt := 44) hx hb dX6_look_37 (by decide) (fun cd => ?_) (fun cd => ?_)
        · have hF := hF.1 cd
          refine lv_iconst (v := 0) hx hb dX6_look_44 (by decide) ?_
          exact wm_look_45 X S1 M v1 v2 0 hF _ _ _ (lv_sub hl [0, 1, 2] rfl) hH
        · have hF := hF.2 cd
          refine lv_iconst (v := 1) hx hb dX6_look_40 (by decide) ?_
          refine lv_goto (tgt := 45) hx hb dX6_look_41 (by decide) ?_
          exact wm_look_45 X S1 M v1 v2 1 hF _ _ _ (lv_sub hl [0, 1, 2] rfl) hH
      · have hF := hF.2 cd
        exact wm_look_23 X S1 M hF _ _ _ (lv_sub hl [0] rfl) hH
set_option maxHeartbeats 4000000 in
set_option maxRecDepth 100000 in
/-- who: what the bytecode asks is what its run needs -/
theorem wm_who (l : Launch) (D : va_G) (cI cZ : ClassId) (ad : Nat → Nat) (o : Nat) (hAd : zm_Ad ad o) (S : Nat → Int32) (M : Nat → Nat → Int32) (v1 : Int32) (v2 : Int32) (v3 : Int32) (Q : Int32 → (Nat → Int32) → (Nat → Nat → Int32) → Prop) (hF : fm_who S M v1 v2 v3 Q) :
    zm_Mi l yX6_who (ws_ yX6_who cX6_who 4 (some .int)) 1 D cI cZ ad o [.int v1, .int v2, .int v3] S M Q := by
  refine zm_ofi rfl hAd (Nat.le_of_ble_eq_true rfl) ?_
  intro p e s m args below meth c H locs ls X hH hl
  have hx := X.1
  have hb := X.2.1
  have hl : lv_has ls 4 [(0, .ref o), (1, .int v1), (2, .int v2), (3, .int v3)] := hl
  unfold fm_who at hF
  refine lv_aload_n hx hb dX6_who_0 rfl (lv_at hl 0 rfl) ?_
  refine lv_iconst (v := 0) hx hb dX6_who_1 (by decide) ?_
  refine zm_puti X hH 0 (by decide) rfl rfl (by decide +kernel) q1713 dX6_who_2 (fun S1 H locs eS1 hH => ?_)
  have hF := hF S1 eS1
  refine lv_aload_n hx hb dX6_who_5 rfl (lv_at hl 0 rfl) ?_
  refine lv_iload_n hx hb dX6_who_6 rfl (lv_at hl 1 rfl) ?_
  refine zm_calli (As := [.int v1]) (rest := []) X hH (wm_isGrave l D cI cZ ad o X.2.2.2.2.2.2.2.2 S1 M v1 _ hF) (cwV 1 X.2.2.2.2.1 (lw_V q1953 q1955 qs48 q95 q1956) rfl rfl rfl (by decide +kernel) ⟨Nat.le_of_ble_eq_true rfl, Nat.le_of_ble_eq_true rfl⟩) rfl hl.1 rfl (Nat.le_of_ble_eq_true rfl) dX6_who_7 (Nat.le_refl 0) (Nat.le_refl 0) (fun r4 S2 M3 H locs hF hH => ?_)
  obtain ⟨hF, e9, e8⟩ := hF; subst e9; subst e8
  refine lv_if_eq (tgt := 17) hx hb dX6_who_10 (by decide) (fun cd => ?_) (fun cd => ?_)
  · have hF := hF.1 cd
    refine lv_iconst (v := (-1)) hx hb dX6_who_17 (by decide) ?_
    exact zm_iret X hH rfl rfl hF dX6_who_18
  · have hF := hF.2 cd
    refine lv_iload_n hx hb dX6_who_13 rfl (lv_at hl 2 rfl) ?_
    refine lv_if_ge (tgt := 19) hx hb dX6_who_14 (by decide) (fun cd => ?_) (fun cd => ?_)
    · have hF := hF.1 cd
      refine lv_aload_n hx hb dX6_who_19 rfl (lv_at hl 0 rfl) ?_
      refine zm_getf X hH 10 (by decide) rfl q1723 dX6_who_20 ?_
      refine lv_iload_n hx hb dX6_who_23 rfl (lv_at hl 1 rfl) ?_
      obtain ⟨hI, hF⟩ := hF
      refine zm_iald X hH 10 (by decide) rfl (n := 150) rfl hI dX6_who_24 ?_
      refine lv_iconst (v := 5) hx hb dX6_who_25 (by decide) ?_
      refine lv_icmp_ne (tgt := 59) hx hb dX6_who_26 (by decide) (fun cd => ?_) (fun cd => ?_)
      · have hF := hF.1 cd
        refine lv_aload_n hx hb dX6_who_59 rfl (lv_at hl 0 rfl) ?_
        refine zm_getf X hH 11 (by decide) rfl q1724 dX6_who_60 ?_
        refine lv_iload_n hx hb dX6_who_63 rfl (lv_at hl 1 rfl) ?_
        obtain ⟨hI, hF⟩ := hF
        refine zm_iald X hH 11 (by decide) rfl (n := 150) rfl hI dX6_who_64 ?_
        refine lv_iconst (v := 4) hx hb dX6_who_65 (by decide) ?_
        refine lv_icmp_eq (tgt := 87) hx hb dX6_who_66 (by decide) (fun cd => ?_) (fun cd => ?_)
        · have hF := hF.1 cd
          refine lv_iconst (v := (-1)) hx hb dX6_who_87 (by decide) ?_
          exact zm_iret X hH rfl rfl hF dX6_who_88
        · have hF := hF.2 cd
          refine lv_iload_n hx hb dX6_who_69 rfl (lv_at hl 2 rfl) ?_
          refine lv_aload_n hx hb dX6_who_70 rfl (lv_at hl 0 rfl) ?_
          refine lv_iload_n hx hb dX6_who_71 rfl (lv_at hl 1 rfl) ?_
          refine zm_calli (As := [.int v1]) (rest := [.int v2]) X hH (wm_columns l D cI cZ ad o X.2.2.2.2.2.2.2.2 S1 M v1 _ hF) (cwV 1 X.2.2.2.2.1 (lw_V q2015 q2017 qs63 q95 q2018) rfl rfl rfl (by decide +kernel) ⟨Nat.le_of_ble_eq_true rfl, Nat.le_of_ble_eq_true rfl⟩) rfl hl.1 rfl (Nat.le_of_ble_eq_true rfl) dX6_who_72 (Nat.le_refl 0) (Nat.le_refl 0) (fun r7 S5 M6 H locs hF hH => ?_)
          obtain ⟨hF, e9, e8⟩ := hF; subst e9; subst e8
          refine lv_icmp_ge (tgt := 87) hx hb dX6_who_75 (by decide) (fun cd => ?_) (fun cd => ?_)
          · have hF := hF.1 cd
            refine lv_iconst (v := (-1)) hx hb dX6_who_87 (by decide) ?_
            exact zm_iret X hH rfl rfl hF dX6_who_88
          · have hF := hF.2 cd
            refine lv_iload_n hx hb dX6_who_78 rfl (lv_at hl 3 rfl) ?_
            refine lv_if_lt (tgt := 87) hx hb dX6_who_79 (by decide) (fun cd => ?_) (fun cd => ?_)
            · have hF := hF.1 cd
              refine lv_iconst (v := (-1)) hx hb dX6_who_87 (by decide) ?_
              exact zm_iret X hH rfl rfl hF dX6_who_88
            · have hF := hF.2 cd
              refine lv_iload_n hx hb dX6_who_82 rfl (lv_at hl 3 rfl) ?_
              refine lv_iconst (v := 1) hx hb dX6_who_83 (by decide) ?_
              refine lv_icmp_le (tgt := 89) hx hb dX6_who_84 (by decide) (fun cd => ?_) (fun cd => ?_)
              · have hF := hF.1 cd
                refine lv_aload_n hx hb dX6_who_89 rfl (lv_at hl 0 rfl) ?_
                refine zm_getf X hH 24 (by decide) rfl q1737 dX6_who_90 ?_
                refine lv_bipush (v := 8) hx hb dX6_who_93 (by decide) ?_
                refine lv_iload_n hx hb dX6_who_95 rfl (lv_at hl 1 rfl) ?_
                refine lv_imul hx hb dX6_who_96 ?_
                refine lv_iconst (v := 2) hx hb dX6_who_97 (by decide) ?_
                refine lv_iload_n hx hb dX6_who_98 rfl (lv_at hl 2 rfl) ?_
                refine lv_imul hx hb dX6_who_99 ?_
                refine lv_iadd hx hb dX6_who_100 ?_
                refine lv_iload_n hx hb dX6_who_101 rfl (lv_at hl 3 rfl) ?_
                refine lv_iadd hx hb dX6_who_102 ?_
                obtain ⟨hI, hF⟩ := hF
                refine zm_iald X hH 24 (by decide) rfl (n := 1200) rfl hI dX6_who_103 ?_
                exact zm_iret X hH rfl rfl hF dX6_who_104
              · have hF := hF.2 cd
                refine lv_iconst (v := (-1)) hx hb dX6_who_87 (by decide) ?_
                exact zm_iret X hH rfl rfl hF dX6_who_88
      · have hF := hF.2 cd
        refine lv_iload_n hx hb dX6_who_29 rfl (lv_at hl 3 rfl) ?_
        refine lv_if_ne (tgt := 57) hx hb dX6_who_30 (by decide) (fun cd => ?_) (fun cd => ?_)
        · have hF := hF.1 cd
          refine lv_iconst (v := (-1)) hx hb dX6_who_57 (by decide) ?_
          exact zm_iret X hH rfl rfl hF dX6_who_58
        · have hF := hF.2 cd
          refine lv_iload_n hx hb dX6_who_33 rfl (lv_at hl 2 rfl) ?_
          refine lv_aload_n hx hb dX6_who_34 rfl (lv_at hl 0 rfl) ?_
          refine zm_getf X hH 26 (by decide) rfl q1739 dX6_who_35 ?_
          refine lv_iload_n hx hb dX6_who_38 rfl (lv_at hl 1 rfl) ?_
          obtain ⟨hI, hF⟩ := hF
          refine zm_iald X hH 26 (by decide) rfl (n := 150) rfl hI dX6_who_39 ?_
          refine lv_icmp_ge (tgt := 57) hx hb dX6_who_40 (by decide) (fun cd => ?_) (fun cd => ?_)
          · have hF := hF.1 cd
            refine lv_iconst (v := (-1)) hx hb dX6_who_57 (by decide) ?_
            exact zm_iret X hH rfl rfl hF dX6_who_58
          · have hF := hF.2 cd
            refine lv_aload_n hx hb dX6_who_43 rfl (lv_at hl 0 rfl) ?_
            refine zm_getf X hH 25 (by decide) rfl q1738 dX6_who_44 ?_
            refine lv_bipush (v := 40) hx hb dX6_who_47 (by decide) ?_
            refine lv_iload_n hx hb dX6_who_49 rfl (lv_at hl 1 rfl) ?_
            refine lv_imul hx hb dX6_who_50 ?_
            refine lv_iload_n hx hb dX6_who_51 rfl (lv_at hl 2 rfl) ?_
            refine lv_iadd hx hb dX6_who_52 ?_
            obtain ⟨hI, hF⟩ := hF
            refine zm_iald X hH 25 (by decide) rfl (n := 6000) rfl hI dX6_who_53 ?_
            refine lv_goto (tgt := 58) hx hb dX6_who_54 (by decide) ?_
            exact zm_iret X hH rfl rfl hF dX6_who_58
    · have hF := hF.2 cd
      refine lv_iconst (v := (-1)) hx hb dX6_who_17 (by decide) ?_
      exact zm_iret X hH rfl rfl hF dX6_who_18
set_option maxHeartbeats 4000000 in
set_option maxRecDepth 100000 in
theorem wm_of_23 {p : Program} {l : Launch} {e : Env} {s : State} {m : MethodId} {args : Array Value} {below : List Frame} {meth : Method} {c : Code} {D : va_G} {cI cZ : ClassId} {ad : Nat → Nat} {o : Nat} {Q : Int32 → (Nat → Int32) → (Nat → Nat → Int32) → Prop} (X : zm_Cx p s m args meth c cX6_of 3 (some .int) D cI cZ ad o) :
    ∀ (S : Nat → Int32) (M : Nat → Nat → Int32), fm_of_23 Q S M → ∀ (H : Heap) (locs : List Loc) (ls : Array Slot), lv_has ls 3 [(0, .ref o)] → zm_H D cI cZ ad o S M s H locs → W p l e (zm_R 1) s m args below meth c H locs 0 0 (MQ below (zm_QS Q D cI cZ ad o) args s 0 0 (zm_A ad o)) (F0 m 23 ls []) := by
  have hx := X.1
  have hb := X.2.1
  intro S M hF
  intro H locs ls hl hH
  unfold fm_of_23 at hF
  refine lv_aload_n hx hb dX6_of_23 rfl (lv_at hl 0 rfl) ?_
  refine lv_iconst (v := 1) hx hb dX6_of_24 (by decide) ?_
  refine zm_puti X hH 0 (by decide) rfl rfl (by decide +kernel) q1713 dX6_of_25 (fun S1 H locs eS1 hH => ?_)
  have hF := hF S1 eS1
  refine lv_iconst (v := 0) hx hb dX6_of_28 (by decide) ?_
  exact zm_iret X hH rfl rfl hF dX6_of_29
set_option maxHeartbeats 4000000 in
set_option maxRecDepth 100000 in
/-- of: what the bytecode asks is what its run needs -/
theorem wm_of (l : Launch) (D : va_G) (cI cZ : ClassId) (ad : Nat → Nat) (o : Nat) (hAd : zm_Ad ad o) (S : Nat → Int32) (M : Nat → Nat → Int32) (v1 : Int32) (v2 : Int32) (Q : Int32 → (Nat → Int32) → (Nat → Nat → Int32) → Prop) (hF : fm_of S M v1 v2 Q) :
    zm_Mi l yX6_of (ws_ yX6_of cX6_of 3 (some .int)) 1 D cI cZ ad o [.int v1, .int v2] S M Q := by
  refine zm_ofi rfl hAd (Nat.le_of_ble_eq_true rfl) ?_
  intro p e s m args below meth c H locs ls X hH hl
  have hx := X.1
  have hb := X.2.1
  have hl : lv_has ls 3 [(0, .ref o), (1, .int v1), (2, .int v2)] := hl
  unfold fm_of at hF
  refine lv_aload_n hx hb dX6_of_0 rfl (lv_at hl 0 rfl) ?_
  refine lv_iconst (v := 0) hx hb dX6_of_1 (by decide) ?_
  refine zm_puti X hH 0 (by decide) rfl rfl (by decide +kernel) q1713 dX6_of_2 (fun S1 H locs eS1 hH => ?_)
  have hF := hF S1 eS1
  refine lv_aload_n hx hb dX6_of_5 rfl (lv_at hl 0 rfl) ?_
  refine lv_iload_n hx hb dX6_of_6 rfl (lv_at hl 1 rfl) ?_
  refine zm_calli (As := [.int v1]) (rest := []) X hH (wm_isPerson l D cI cZ ad o X.2.2.2.2.2.2.2.2 S1 M v1 _ hF) (cwV 1 X.2.2.2.2.1 (lw_V q1941 q1943 qs45 q95 q1944) rfl rfl rfl (by decide +kernel) ⟨Nat.le_of_ble_eq_true rfl, Nat.le_of_ble_eq_true rfl⟩) rfl hl.1 rfl (Nat.le_of_ble_eq_true rfl) dX6_of_7 (Nat.le_refl 0) (Nat.le_refl 0) (fun r4 S2 M3 H locs hF hH => ?_)
  obtain ⟨hF, e9, e8⟩ := hF; subst e9; subst e8
  refine lv_if_eq (tgt := 23) hx hb dX6_of_10 (by decide) (fun cd => ?_) (fun cd => ?_)
  · have hF := hF.1 cd
    exact wm_of_23 X S1 M hF _ _ _ (lv_sub hl [0] rfl) hH
  · have hF := hF.2 cd
    refine lv_iload_n hx hb dX6_of_13 rfl (lv_at hl 2 rfl) ?_
    refine lv_if_lt (tgt := 23) hx hb dX6_of_14 (by decide) (fun cd => ?_) (fun cd => ?_)
    · have hF := hF.1 cd
      exact wm_of_23 X S1 M hF _ _ _ (lv_sub hl [0] rfl) hH
    · have hF := hF.2 cd
      refine lv_iload_n hx hb dX6_of_17 rfl (lv_at hl 2 rfl) ?_
      refine lv_bipush (v := 9) hx hb dX6_of_18 (by decide) ?_
      refine lv_icmp_le (tgt := 30) hx hb dX6_of_20 (by decide) (fun cd => ?_) (fun cd => ?_)
      · have hF := hF.1 cd
        refine lv_iload_n hx hb dX6_of_30 rfl (lv_at hl 2 rfl) ?_
        by_cases hsw : v2.toInt < 0 ∨ 8 < v2.toInt
        · have hF := hF.1 hsw
          refine lv_tableOut (tgt := 157) hx hb dX6_of_31 hsw (by decide) ?_
          refine lv_aload_n hx hb dX6_of_157 rfl (lv_at hl 0 rfl) ?_
          refine zm_getf X hH 38 (by decide) rfl q1751 dX6_of_158 ?_
          refine lv_iload_n hx hb dX6_of_161 rfl (lv_at hl 1 rfl) ?_
          obtain ⟨hI, hF⟩ := hF
          refine zm_iald X hH 38 (by decide) rfl (n := 150) rfl hI dX6_of_162 ?_
          exact zm_iret X hH rfl rfl hF dX6_of_163
        · have hF := hF.2
          have hsw2 : v2.toInt = 0 ∨ v2.toInt = 1 ∨ v2.toInt = 2 ∨ v2.toInt = 3 ∨ v2.toInt = 4 ∨ v2.toInt = 5 ∨ v2.toInt = 6 ∨ v2.toInt = 7 ∨ v2.toInt = 8 := by omega
          rcases hsw2 with hk | hk | hk | hk | hk | hk | hk | hk | hk
          · have hF := hF.1 hk
            refine lv_tableIn (tgt := 80) hx hb dX6_of_31 (by rw [hk]; decide) (by rw [hk]; decide) (by rw [hk]; rfl) (by decide) ?_
            refine lv_aload_n hx hb dX6_of_80 rfl (lv_at hl 0 rfl) ?_
            refine zm_getf X hH 30 (by decide) rfl q1743 dX6_of_81 ?_
            refine lv_iload_n hx hb dX6_of_84 rfl (lv_at hl 1 rfl) ?_
            obtain ⟨hI, hF⟩ := hF
            refine zm_iald X hH 30 (by decide) rfl (n := 150) rfl hI dX6_of_85 ?_
            exact zm_iret X hH rfl rfl hF dX6_of_86
          · have hF := hF.2.1 hk
            refine lv_tableIn (tgt := 87) hx hb dX6_of_31 (by rw [hk]; decide) (by rw [hk]; decide) (by rw [hk]; rfl) (by decide) ?_
            refine lv_aload_n hx hb dX6_of_87 rfl (lv_at hl 0 rfl) ?_
            refine zm_getf X hH 30 (by decide) rfl q1743 dX6_of_88 ?_
            refine lv_iload_n hx hb dX6_of_91 rfl (lv_at hl 1 rfl) ?_
            obtain ⟨hI, hF⟩ := hF
            refine zm_iald X hH 30 (by decide) rfl (n := 150) rfl hI dX6_of_92 ?_
            refine lv_iconst (v := 2) hx hb dX6_of_93 (by decide) ?_
            refine lv_icmp_ne (tgt := 106) hx hb dX6_of_94 (by decide) (fun cd => ?_) (fun cd => ?_)
            · have hF := hF.1 cd
              refine lv_iconst (v := (-1)) hx hb dX6_of_106 (by decide) ?_
              exact zm_iret X hH rfl rfl hF dX6_of_107
            · have hF := hF.2 cd
              refine lv_aload_n hx hb dX6_of_97 rfl (lv_at hl 0 rfl) ?_
              refine zm_getf X hH 31 (by decide) rfl q1744 dX6_of_98 ?_
              refine lv_iload_n hx hb dX6_of_101 rfl (lv_at hl 1 rfl) ?_
              obtain ⟨hI, hF⟩ := hF
              refine zm_iald X hH 31 (by decide) rfl (n := 150) rfl hI dX6_of_102 ?_
              refine lv_goto (tgt := 107) hx hb dX6_of_103 (by decide) ?_
              exact zm_iret X hH rfl rfl hF dX6_of_107
          · have hF := hF.2.2.1 hk
            refine lv_tableIn (tgt := 108) hx hb dX6_of_31 (by rw [hk]; decide) (by rw [hk]; decide) (by rw [hk]; rfl) (by decide) ?_
            refine lv_aload_n hx hb dX6_of_108 rfl (lv_at hl 0 rfl) ?_
            refine zm_getf X hH 32 (by decide) rfl q1745 dX6_of_109 ?_
            refine lv_iload_n hx hb dX6_of_112 rfl (lv_at hl 1 rfl) ?_
            obtain ⟨hI, hF⟩ := hF
            refine zm_iald X hH 32 (by decide) rfl (n := 150) rfl hI dX6_of_113 ?_
            exact zm_iret X hH rfl rfl hF dX6_of_114
          · have hF := hF.2.2.2.1 hk
            refine lv_tableIn (tgt := 115) hx hb dX6_of_31 (by rw [hk]; decide) (by rw [hk]; decide) (by rw [hk]; rfl) (by decide) ?_
            refine lv_aload_n hx hb dX6_of_115 rfl (lv_at hl 0 rfl) ?_
            refine zm_getf X hH 33 (by decide) rfl q1746 dX6_of_116 ?_
            refine lv_iload_n hx hb dX6_of_119 rfl (lv_at hl 1 rfl) ?_
            obtain ⟨hI, hF⟩ := hF
            refine zm_iald X hH 33 (by decide) rfl (n := 150) rfl hI dX6_of_120 ?_
            exact zm_iret X hH rfl rfl hF dX6_of_121
          · have hF := hF.2.2.2.2.1 hk
            refine lv_tableIn (tgt := 122) hx hb dX6_of_31 (by rw [hk]; decide) (by rw [hk]; decide) (by rw [hk]; rfl) (by decide) ?_
            refine lv_aload_n hx hb dX6_of_122 rfl (lv_at hl 0 rfl) ?_
            refine zm_getf X hH 34 (by decide) rfl q1747 dX6_of_123 ?_
            refine lv_iload_n hx hb dX6_of_126 rfl (lv_at hl 1 rfl) ?_
            obtain ⟨hI, hF⟩ := hF
            refine zm_iald X hH 34 (by decide) rfl (n := 150) rfl hI dX6_of_127 ?_
            exact zm_iret X hH rfl rfl hF dX6_of_128
          · have hF := hF.2.2.2.2.2.1 hk
            refine lv_tableIn (tgt := 129) hx hb dX6_of_31 (by rw [hk]; decide) (by rw [hk]; decide) (by rw [hk]; rfl) (by decide) ?_
            refine lv_aload_n hx hb dX6_of_129 rfl (lv_at hl 0 rfl) ?_
            refine zm_getf X hH 35 (by decide) rfl q1748 dX6_of_130 ?_
            refine lv_iload_n hx hb dX6_of_133 rfl (lv_at hl 1 rfl) ?_
            obtain ⟨hI, hF⟩ := hF
            refine zm_iald X hH 35 (by decide) rfl (n := 150) rfl hI dX6_of_134 ?_
            exact zm_iret X hH rfl rfl hF dX6_of_135
          · have hF := hF.2.2.2.2.2.2.1 hk
            refine lv_tableIn (tgt := 136) hx hb dX6_of_31 (by rw [hk]; decide) (by rw [hk]; decide) (by rw [hk]; rfl) (by decide) ?_
            refine lv_aload_n hx hb dX6_of_136 rfl (lv_at hl 0 rfl) ?_
            refine zm_getf X hH 28 (by decide) rfl q1741 dX6_of_137 ?_
            refine lv_iload_n hx hb dX6_of_140 rfl (lv_at hl 1 rfl) ?_
            obtain ⟨hI, hF⟩ := hF
            refine zm_iald X hH 28 (by decide) rfl (n := 150) rfl hI dX6_of_141 ?_
            exact zm_iret X hH rfl rfl hF dX6_of_142
          · have hF := hF.2.2.2.2.2.2.2.1 hk
            refine lv_tableIn (tgt := 143) hx hb dX6_of_31 (by rw [hk]; decide) (by rw [hk]; decide) (by rw [hk]; rfl) (by decide) ?_
            refine lv_aload_n hx hb dX6_of_143 rfl (lv_at hl 0 rfl) ?_
            refine zm_getf X hH 36 (by decide) rfl q1749 dX6_of_144 ?_
            refine lv_iload_n hx hb dX6_of_147 rfl (lv_at hl 1 rfl) ?_
            obtain ⟨hI, hF⟩ := hF
            refine zm_iald X hH 36 (by decide) rfl (n := 150) rfl hI dX6_of_148 ?_
            exact zm_iret X hH rfl rfl hF dX6_of_149
          · have hF := hF.2.2.2.2.2.2.2.2 hk
            refine lv_tableIn (tgt := 150) hx hb dX6_of_31 (by rw [hk]; decide) (by rw [hk]; decide) (by rw [hk]; rfl) (by decide) ?_
            refine lv_aload_n hx hb dX6_of_150 rfl (lv_at hl 0 rfl) ?_
            refine zm_getf X hH 37 (by decide) rfl q1750 dX6_of_151 ?_
            refine lv_iload_n hx hb dX6_of_154 rfl (lv_at hl 1 rfl) ?_
            obtain ⟨hI, hF⟩ := hF
            refine zm_iald X hH 37 (by decide) rfl (n := 150) rfl hI dX6_of_155 ?_
            exact zm_iret X hH rfl rfl hF dX6_of_156
      · have hF := hF.2 cd
        exact wm_of_23 X S1 M hF _ _ _ (lv_sub hl [0] rfl) hH
set_option maxHeartbeats 4000000 in
set_option maxRecDepth 100000 in
theorem wm_where_67 {p : Program} {l : Launch} {e : Env} {s : State} {m : MethodId} {args : Array Value} {below : List Frame} {meth : Method} {c : Code} {D : va_G} {cI cZ : ClassId} {ad : Nat → Nat} {o : Nat} {Q : Int32 → (Nat → Int32) → (Nat → Nat → Int32) → Prop} {K28 : (Nat → Int32) → (Nat → Nat → Int32) → Int32 → Int32 → Int32 → Int32 → Prop} (X : zm_Cx p s m args meth c cX6_where 5 (some .int) D cI cZ ad o) (hK28 : ∀ (S : Nat → Int32) (M : Nat → Nat → Int32) (v1 : Int32) (v2 : Int32) (v3 : Int32) (v4 : Int32), K28 S M v1 v2 v3 v4 → ∀ (H : Heap) (locs : List Loc) (ls : Array Slot), lv_has ls 5 [(0, .ref o), (1, .int v1), (2, .int v2), (3, .int v3), (4, .int v4)] → zm_H D cI cZ ad o S M s H locs → W p l e (zm_R 1) s m args below meth c H locs 0 0 (MQ below (zm_QS Q D cI cZ ad o) args s 0 0 (zm_A ad o)) (F0 m 28 ls [])) :
    ∀ (S : Nat → Int32) (M : Nat → Nat → Int32) (v1 : Int32) (v2 : Int32) (v3 : Int32) (v4 : Int32), fm_where_67 Q K28 S M v1 v2 v3 v4 → ∀ (H : Heap) (locs : List Loc) (ls : Array Slot), lv_has ls 5 [(0, .ref o), (1, .int v1), (2, .int v2), (3, .int v3), (4, .int v4)] → zm_H D cI cZ ad o S M s H locs → W p l e (zm_R 1) s m args below meth c H locs 0 0 (MQ below (zm_QS Q D cI cZ ad o) args s 0 0 (zm_A ad o)) (F0 m 67 ls []) := by
  have hx := X.1
  have hb := X.2.1
  intro S M v1 v2 v3 v4 hF
  intro H locs ls hl hH
  unfold fm_where_67 at hF
  obtain ⟨x1, ex1⟩ : ∃ z : Int32, z = v4 + 1 := ⟨_, rfl⟩
  have hF := hF x1 ex1
  refine lv_iinc (v := x1) (lv' := [(4, .int x1), (0, .ref o), (1, .int v1), (2, .int v2), (3, .int v3)]) hx hb dX6_where_67 hl (k := 4) rfl (by rw [ex1]; rfl) (by decide) rfl (fun ls hl => ?_)
  refine lv_goto (tgt := 28) hx hb dX6_where_70 (by decide) ?_
  exact hK28 S M v1 v2 v3 x1 hF _ _ _ (lv_sub hl [1, 2, 3, 4, 0] rfl) hH
set_option maxHeartbeats 4000000 in
set_option maxRecDepth 100000 in
theorem wm_where_28 {p : Program} {l : Launch} {e : Env} {s : State} {m : MethodId} {args : Array Value} {below : List Frame} {meth : Method} {c : Code} {D : va_G} {cI cZ : ClassId} {ad : Nat → Nat} {o : Nat} {Q : Int32 → (Nat → Int32) → (Nat → Nat → Int32) → Prop} (X : zm_Cx p s m args meth c cX6_where 5 (some .int) D cI cZ ad o) :
    ∀ (n : Nat) (S : Nat → Int32) (M : Nat → Nat → Int32) (v1 : Int32) (v2 : Int32) (v3 : Int32) (v4 : Int32), fm_where_28 Q n S M v1 v2 v3 v4 → ∀ (H : Heap) (locs : List Loc) (ls : Array Slot), lv_has ls 5 [(0, .ref o), (1, .int v1), (2, .int v2), (3, .int v3), (4, .int v4)] → zm_H D cI cZ ad o S M s H locs → W p l e (zm_R 1) s m args below meth c H locs 0 0 (MQ below (zm_QS Q D cI cZ ad o) args s 0 0 (zm_A ad o)) (F0 m 28 ls []) := by
  have hx := X.1
  have hb := X.2.1
  intro n
  induction n with
  | zero =>
    intro S M v1 v2 v3 v4 hF
    exact False.elim hF
  | succ n ih =>
    intro S M v1 v2 v3 v4 hF
    intro H locs ls hl hH
    unfold fm_where_28 at hF
    refine lv_iload hx hb dX6_where_28 (lv_at hl 4 rfl) ?_
    refine lv_aload_n hx hb dX6_where_30 rfl (lv_at hl 0 rfl) ?_
    refine zm_getf X hH 40 (by decide) rfl q1753 dX6_where_31 ?_
    refine lv_icmp_ge (tgt := 73) hx hb dX6_where_34 (by decide) (fun cd => ?_) (fun cd => ?_)
    · have hF := hF.1 cd
      refine lv_iload_n hx hb dX6_where_73 rfl (lv_at hl 3 rfl) ?_
      exact zm_iret X hH rfl rfl hF dX6_where_74
    · have hF := hF.2 cd
      refine lv_aload_n hx hb dX6_where_37 rfl (lv_at hl 0 rfl) ?_
      refine zm_getf X hH 41 (by decide) rfl q1754 dX6_where_38 ?_
      refine lv_iload hx hb dX6_where_41 (lv_at hl 4 rfl) ?_
      obtain ⟨hI, hF⟩ := hF
      refine zm_iald X hH 41 (by decide) rfl (n := 2600) rfl hI dX6_where_43 ?_
      refine lv_iload_n hx hb dX6_where_44 rfl (lv_at hl 1 rfl) ?_
      refine lv_icmp_ne (tgt := 67) hx hb dX6_where_45 (by decide) (fun cd => ?_) (fun cd => ?_)
      · have hF := hF.1 cd
        exact wm_where_67 X ih S M v1 v2 v3 v4 hF _ _ _ (lv_sub hl [0, 1, 2, 3, 4] rfl) hH
      · have hF := hF.2 cd
        refine lv_aload_n hx hb dX6_where_48 rfl (lv_at hl 0 rfl) ?_
        refine zm_getf X hH 42 (by decide) rfl q1755 dX6_where_49 ?_
        refine lv_iload hx hb dX6_where_52 (lv_at hl 4 rfl) ?_
        obtain ⟨hI, hF⟩ := hF
        refine zm_iald X hH 42 (by decide) rfl (n := 2600) rfl hI dX6_where_54 ?_
        refine lv_iload_n hx hb dX6_where_55 rfl (lv_at hl 2 rfl) ?_
        refine lv_icmp_gt (tgt := 67) hx hb dX6_where_56 (by decide) (fun cd => ?_) (fun cd => ?_)
        · have hF := hF.1 cd
          exact wm_where_67 X ih S M v1 v2 v3 v4 hF _ _ _ (lv_sub hl [0, 1, 2, 3, 4] rfl) hH
        · have hF := hF.2 cd
          refine lv_aload_n hx hb dX6_where_59 rfl (lv_at hl 0 rfl) ?_
          refine zm_getf X hH 43 (by decide) rfl q1756 dX6_where_60 ?_
          refine lv_iload hx hb dX6_where_63 (lv_at hl 4 rfl) ?_
          obtain ⟨hI, hF⟩ := hF
          refine zm_iald X hH 43 (by decide) rfl (n := 2600) rfl hI dX6_where_65 ?_
          refine lv_topi (fun x1 ex1 => ?_)
          have hF := hF x1 ex1
          refine lv_istore_n (lv' := [(3, .int x1), (0, .ref o), (1, .int v1), (2, .int v2), (4, .int v4)]) hx hb dX6_where_66 rfl hl (by decide) rfl (fun ls hl => ?_)
          exact wm_where_67 X ih S M v1 v2 x1 v4 hF _ _ _ (lv_sub hl [1, 2, 3, 0, 4] rfl) hH
set_option maxHeartbeats 4000000 in
set_option maxRecDepth 100000 in
/-- where: what the bytecode asks is what its run needs -/
theorem wm_where (l : Launch) (D : va_G) (cI cZ : ClassId) (ad : Nat → Nat) (o : Nat) (hAd : zm_Ad ad o) (S : Nat → Int32) (M : Nat → Nat → Int32) (v1 : Int32) (v2 : Int32) (Q : Int32 → (Nat → Int32) → (Nat → Nat → Int32) → Prop) (hF : fm_where S M v1 v2 Q) :
    zm_Mi l yX6_where (ws_ yX6_where cX6_where 5 (some .int)) 1 D cI cZ ad o [.int v1, .int v2] S M Q := by
  refine zm_ofi rfl hAd (Nat.le_of_ble_eq_true rfl) ?_
  intro p e s m args below meth c H locs ls X hH hl
  have hx := X.1
  have hb := X.2.1
  have hl : lv_has ls 5 [(0, .ref o), (1, .int v1), (2, .int v2)] := hl
  unfold fm_where at hF
  refine lv_aload_n hx hb dX6_where_0 rfl (lv_at hl 0 rfl) ?_
  refine lv_iconst (v := 0) hx hb dX6_where_1 (by decide) ?_
  refine zm_puti X hH 0 (by decide) rfl rfl (by decide +kernel) q1713 dX6_where_2 (fun S1 H locs eS1 hH => ?_)
  have hF := hF S1 eS1
  refine lv_aload_n hx hb dX6_where_5 rfl (lv_at hl 0 rfl) ?_
  refine lv_iload_n hx hb dX6_where_6 rfl (lv_at hl 1 rfl) ?_
  refine zm_calli (As := [.int v1]) (rest := []) X hH (wm_isPerson l D cI cZ ad o X.2.2.2.2.2.2.2.2 S1 M v1 _ hF) (cwV 1 X.2.2.2.2.1 (lw_V q1941 q1943 qs45 q95 q1944) rfl rfl rfl (by decide +kernel) ⟨Nat.le_of_ble_eq_true rfl, Nat.le_of_ble_eq_true rfl⟩) rfl hl.1 rfl (Nat.le_of_ble_eq_true rfl) dX6_where_7 (Nat.le_refl 0) (Nat.le_refl 0) (fun r4 S2 M3 H locs hF hH => ?_)
  obtain ⟨hF, e9, e8⟩ := hF; subst e9; subst e8
  refine lv_if_eq (tgt := 21) hx hb dX6_where_10 (by decide) (fun cd => ?_) (fun cd => ?_)
  · have hF := hF.1 cd
    refine lv_iconst (v := (-1)) hx hb dX6_where_21 (by decide) ?_
    exact zm_iret X hH rfl rfl hF dX6_where_22
  · have hF := hF.2 cd
    refine lv_iload_n hx hb dX6_where_13 rfl (lv_at hl 2 rfl) ?_
    refine lv_aload_n hx hb dX6_where_14 rfl (lv_at hl 0 rfl) ?_
    refine zm_getf X hH 1 (by decide) rfl q1714 dX6_where_15 ?_
    refine lv_icmp_le (tgt := 23) hx hb dX6_where_18 (by decide) (fun cd => ?_) (fun cd => ?_)
    · have hF := hF.1 cd
      refine lv_iconst (v := (-1)) hx hb dX6_where_23 (by decide) ?_
      refine lv_topi (fun x5 ex5 => ?_)
      have hF := hF x5 ex5
      refine lv_istore_n (lv' := [(3, .int x5), (0, .ref o), (1, .int v1), (2, .int v2)]) hx hb dX6_where_24 rfl hl (by decide) rfl (fun ls hl => ?_)
      refine lv_iconst (v := 0) hx hb dX6_where_25 (by decide) ?_
      refine lv_istore (lv' := [(4, .int 0), (3, .int x5), (0, .ref o), (1, .int v1), (2, .int v2)]) hx hb dX6_where_26 hl (by decide) rfl (fun ls hl => ?_)
      obtain ⟨n9, hF⟩ := hF
      exact wm_where_28 X n9 S1 M v1 v2 x5 0 hF _ _ _ (lv_sub hl [2, 3, 4, 1, 0] rfl) hH
    · have hF := hF.2 cd
      refine lv_iconst (v := (-1)) hx hb dX6_where_21 (by decide) ?_
      exact zm_iret X hH rfl rfl hF dX6_where_22
set_option maxHeartbeats 4000000 in
set_option maxRecDepth 100000 in
/-- order: what the bytecode asks is what its run needs -/
theorem wm_order (l : Launch) (D : va_G) (cI cZ : ClassId) (ad : Nat → Nat) (o : Nat) (hAd : zm_Ad ad o) (S : Nat → Int32) (M : Nat → Nat → Int32) (v1 : Int32) (v2 : Int32) (Q : Int32 → (Nat → Int32) → (Nat → Nat → Int32) → Prop) (hF : fm_order S M v1 v2 Q) :
    zm_Mi l yX6_order (ws_ yX6_order cX6_order 3 (some .int)) 1 D cI cZ ad o [.int v1, .int v2] S M Q := by
  refine zm_ofi rfl hAd (Nat.le_of_ble_eq_true rfl) ?_
  intro p e s m args below meth c H locs ls X hH hl
  have hx := X.1
  have hb := X.2.1
  have hl : lv_has ls 3 [(0, .ref o), (1, .int v1), (2, .int v2)] := hl
  unfold fm_order at hF
  refine lv_aload_n hx hb dX6_order_0 rfl (lv_at hl 0 rfl) ?_
  refine lv_iconst (v := 0) hx hb dX6_order_1 (by decide) ?_
  refine zm_puti X hH 0 (by decide) rfl rfl (by decide +kernel) q1713 dX6_order_2 (fun S1 H locs eS1 hH => ?_)
  have hF := hF S1 eS1
  refine lv_aload_n hx hb dX6_order_5 rfl (lv_at hl 0 rfl) ?_
  refine lv_iload_n hx hb dX6_order_6 rfl (lv_at hl 1 rfl) ?_
  refine zm_calli (As := [.int v1]) (rest := []) X hH (wm_isGrave l D cI cZ ad o X.2.2.2.2.2.2.2.2 S1 M v1 _ hF) (cwV 1 X.2.2.2.2.1 (lw_V q1953 q1955 qs48 q95 q1956) rfl rfl rfl (by decide +kernel) ⟨Nat.le_of_ble_eq_true rfl, Nat.le_of_ble_eq_true rfl⟩) rfl hl.1 rfl (Nat.le_of_ble_eq_true rfl) dX6_order_7 (Nat.le_refl 0) (Nat.le_refl 0) (fun r4 S2 M3 H locs hF hH => ?_)
  obtain ⟨hF, e9, e8⟩ := hF; subst e9; subst e8
  refine lv_if_eq (tgt := 44) hx hb dX6_order_10 (by decide) (fun cd => ?_) (fun cd => ?_)
  · have hF := hF.1 cd
    refine lv_iconst (v := (-1)) hx hb dX6_order_44 (by decide) ?_
    exact zm_iret X hH rfl rfl hF dX6_order_45
  · have hF := hF.2 cd
    refine lv_aload_n hx hb dX6_order_13 rfl (lv_at hl 0 rfl) ?_
    refine zm_getf X hH 11 (by decide) rfl q1724 dX6_order_14 ?_
    refine lv_iload_n hx hb dX6_order_17 rfl (lv_at hl 1 rfl) ?_
    obtain ⟨hI, hF⟩ := hF
    refine zm_iald X hH 11 (by decide) rfl (n := 150) rfl hI dX6_order_18 ?_
    refine lv_iconst (v := 2) hx hb dX6_order_19 (by decide) ?_
    refine lv_icmp_ne (tgt := 44) hx hb dX6_order_20 (by decide) (fun cd => ?_) (fun cd => ?_)
    · have hF := hF.1 cd
      refine lv_iconst (v := (-1)) hx hb dX6_order_44 (by decide) ?_
      exact zm_iret X hH rfl rfl hF dX6_order_45
    · have hF := hF.2 cd
      refine lv_iload_n hx hb dX6_order_23 rfl (lv_at hl 2 rfl) ?_
      refine lv_if_lt (tgt := 44) hx hb dX6_order_24 (by decide) (fun cd => ?_) (fun cd => ?_)
      · have hF := hF.1 cd
        refine lv_iconst (v := (-1)) hx hb dX6_order_44 (by decide) ?_
        exact zm_iret X hH rfl rfl hF dX6_order_45
      · have hF := hF.2 cd
        refine lv_iload_n hx hb dX6_order_27 rfl (lv_at hl 2 rfl) ?_
        refine lv_aload_n hx hb dX6_order_28 rfl (lv_at hl 0 rfl) ?_
        refine zm_getf X hH 22 (by decide) rfl q1735 dX6_order_29 ?_
        refine lv_iload_n hx hb dX6_order_32 rfl (lv_at hl 1 rfl) ?_
        obtain ⟨hI, hF⟩ := hF
        refine zm_iald X hH 22 (by decide) rfl (n := 150) rfl hI dX6_order_33 ?_
        refine lv_aload_n hx hb dX6_order_34 rfl (lv_at hl 0 rfl) ?_
        refine zm_getf X hH 23 (by decide) rfl q1736 dX6_order_35 ?_
        refine lv_iload_n hx hb dX6_order_38 rfl (lv_at hl 1 rfl) ?_
        obtain ⟨hI, hF⟩ := hF
        refine zm_iald X hH 23 (by decide) rfl (n := 150) rfl hI dX6_order_39 ?_
        refine lv_isub hx hb dX6_order_40 ?_
        refine lv_icmp_lt (tgt := 46) hx hb dX6_order_41 (by decide) (fun cd => ?_) (fun cd => ?_)
        · have hF := hF.1 cd
          refine lv_aload_n hx hb dX6_order_46 rfl (lv_at hl 0 rfl) ?_
          refine zm_getf X hH 21 (by decide) rfl q1734 dX6_order_47 ?_
          refine lv_sipush (v := 150) hx hb dX6_order_50 (by decide) ?_
          refine lv_iload_n hx hb dX6_order_53 rfl (lv_at hl 1 rfl) ?_
          refine lv_imul hx hb dX6_order_54 ?_
          refine lv_aload_n hx hb dX6_order_55 rfl (lv_at hl 0 rfl) ?_
          refine zm_getf X hH 23 (by decide) rfl q1736 dX6_order_56 ?_
          refine lv_iload_n hx hb dX6_order_59 rfl (lv_at hl 1 rfl) ?_
          obtain ⟨hI, hF⟩ := hF
          refine zm_iald X hH 23 (by decide) rfl (n := 150) rfl hI dX6_order_60 ?_
          refine lv_iadd hx hb dX6_order_61 ?_
          refine lv_iload_n hx hb dX6_order_62 rfl (lv_at hl 2 rfl) ?_
          refine lv_iadd hx hb dX6_order_63 ?_
          obtain ⟨hI, hF⟩ := hF
          refine zm_iald X hH 21 (by decide) rfl (n := 22500) rfl hI dX6_order_64 ?_
          exact zm_iret X hH rfl rfl hF dX6_order_65
        · have hF := hF.2 cd
          refine lv_iconst (v := (-1)) hx hb dX6_order_44 (by decide) ?_
          exact zm_iret X hH rfl rfl hF dX6_order_45
set_option maxHeartbeats 4000000 in
set_option maxRecDepth 100000 in
theorem wm_act_26 {p : Program} {l : Launch} {e : Env} {s : State} {m : MethodId} {args : Array Value} {below : List Frame} {meth : Method} {c : Code} {D : va_G} {cI cZ : ClassId} {ad : Nat → Nat} {o : Nat} {Q : Int32 → (Nat → Int32) → (Nat → Nat → Int32) → Prop} (X : zm_Cx p s m args meth c cX6_act 3 (some .int) D cI cZ ad o) :
    ∀ (S : Nat → Int32) (M : Nat → Nat → Int32), fm_act_26 Q S M → ∀ (H : Heap) (locs : List Loc) (ls : Array Slot), lv_has ls 3 [(0, .ref o)] → zm_H D cI cZ ad o S M s H locs → W p l e (zm_R 0) s m args below meth c H locs 0 0 (MQ below (zm_QS Q D cI cZ ad o) args s 0 0 (zm_A ad o)) (F0 m 26 ls []) := by
  have hx := X.1
  have hb := X.2.1
  intro S M hF
  intro H locs ls hl hH
  unfold fm_act_26 at hF
  refine lv_iconst (v := 0) hx hb dX6_act_26 (by decide) ?_
  refine lv_goto (tgt := 41) hx hb dX6_act_27 (by decide) ?_
  exact zm_iret X hH rfl rfl hF dX6_act_41
set_option maxHeartbeats 4000000 in
set_option maxRecDepth 100000 in
/-- act: what the bytecode asks is what its run needs -/
theorem wm_act (l : Launch) (D : va_G) (cI cZ : ClassId) (ad : Nat → Nat) (o : Nat) (hAd : zm_Ad ad o) (S : Nat → Int32) (M : Nat → Nat → Int32) (v1 : Int32) (v2 : Int32) (Q : Int32 → (Nat → Int32) → (Nat → Nat → Int32) → Prop) (hF : fm_act S M v1 v2 Q) :
    zm_Mi l yX6_act (ws_ yX6_act cX6_act 3 (some .int)) 0 D cI cZ ad o [.int v1, .int v2] S M Q := by
  refine zm_ofi rfl hAd (Nat.le_of_ble_eq_true rfl) ?_
  intro p e s m args below meth c H locs ls X hH hl
  have hx := X.1
  have hb := X.2.1
  have hl : lv_has ls 3 [(0, .ref o), (1, .int v1), (2, .int v2)] := hl
  unfold fm_act at hF
  refine lv_aload_n hx hb dX6_act_0 rfl (lv_at hl 0 rfl) ?_
  refine lv_iconst (v := 0) hx hb dX6_act_1 (by decide) ?_
  refine zm_puti X hH 0 (by decide) rfl rfl (by decide +kernel) q1713 dX6_act_2 (fun S1 H locs eS1 hH => ?_)
  have hF := hF S1 eS1
  refine lv_iload_n hx hb dX6_act_5 rfl (lv_at hl 1 rfl) ?_
  refine lv_if_lt (tgt := 26) hx hb dX6_act_6 (by decide) (fun cd => ?_) (fun cd => ?_)
  · have hF := hF.1 cd
    exact wm_act_26 X S1 M hF _ _ _ (lv_sub hl [0] rfl) hH
  · have hF := hF.2 cd
    refine lv_iload_n hx hb dX6_act_9 rfl (lv_at hl 1 rfl) ?_
    refine lv_aload_n hx hb dX6_act_10 rfl (lv_at hl 0 rfl) ?_
    refine zm_getf X hH 45 (by decide) rfl q1758 dX6_act_11 ?_
    refine lv_icmp_ge (tgt := 26) hx hb dX6_act_14 (by decide) (fun cd => ?_) (fun cd => ?_)
    · have hF := hF.1 cd
      exact wm_act_26 X S1 M hF _ _ _ (lv_sub hl [0] rfl) hH
    · have hF := hF.2 cd
      refine lv_iload_n hx hb dX6_act_17 rfl (lv_at hl 2 rfl) ?_
      refine lv_if_lt (tgt := 26) hx hb dX6_act_18 (by decide) (fun cd => ?_) (fun cd => ?_)
      · have hF := hF.1 cd
        exact wm_act_26 X S1 M hF _ _ _ (lv_sub hl [0] rfl) hH
      · have hF := hF.2 cd
        refine lv_iload_n hx hb dX6_act_21 rfl (lv_at hl 2 rfl) ?_
        refine lv_iconst (v := 5) hx hb dX6_act_22 (by decide) ?_
        refine lv_icmp_le (tgt := 30) hx hb dX6_act_23 (by decide) (fun cd => ?_) (fun cd => ?_)
        · have hF := hF.1 cd
          refine lv_aload_n hx hb dX6_act_30 rfl (lv_at hl 0 rfl) ?_
          refine zm_getf X hH 46 (by decide) rfl q1759 dX6_act_31 ?_
          refine lv_bipush (v := 6) hx hb dX6_act_34 (by decide) ?_
          refine lv_iload_n hx hb dX6_act_36 rfl (lv_at hl 1 rfl) ?_
          refine lv_imul hx hb dX6_act_37 ?_
          refine lv_iload_n hx hb dX6_act_38 rfl (lv_at hl 2 rfl) ?_
          refine lv_iadd hx hb dX6_act_39 ?_
          obtain ⟨hI, hF⟩ := hF
          refine zm_iald X hH 46 (by decide) rfl (n := 2400) rfl hI dX6_act_40 ?_
          exact zm_iret X hH rfl rfl hF dX6_act_41
        · have hF := hF.2 cd
          exact wm_act_26 X S1 M hF _ _ _ (lv_sub hl [0] rfl) hH
set_option maxHeartbeats 4000000 in
set_option maxRecDepth 100000 in
/-- feed: what the bytecode asks is what its run needs -/
theorem wm_feed (l : Launch) (D : va_G) (cI cZ : ClassId) (ad : Nat → Nat) (o : Nat) (hAd : zm_Ad ad o) (S : Nat → Int32) (M : Nat → Nat → Int32) (v1 : Int32) (v2 : Int32) (v3 : Int32) (v4 : Int32) (v5 : Int32) (v6 : Int32) (Q : Int32 → (Nat → Int32) → (Nat → Nat → Int32) → Prop) (hF : fm_feed S M v1 v2 v3 v4 v5 v6 Q) :
    zm_Mi l yX6_feed (ws_ yX6_feed cX6_feed 8 (some .int)) 0 D cI cZ ad o [.int v1, .int v2, .int v3, .int v4, .int v5, .int v6] S M Q := by
  refine zm_ofi rfl hAd (Nat.le_of_ble_eq_true rfl) ?_
  intro p e s m args below meth c H locs ls X hH hl
  have hx := X.1
  have hb := X.2.1
  have hl : lv_has ls 8 [(0, .ref o), (1, .int v1), (2, .int v2), (3, .int v3), (4, .int v4), (5, .int v5), (6, .int v6)] := hl
  unfold fm_feed at hF
  refine lv_aload_n hx hb dX6_feed_0 rfl (lv_at hl 0 rfl) ?_
  refine lv_iconst (v := 0) hx hb dX6_feed_1 (by decide) ?_
  refine zm_puti X hH 0 (by decide) rfl rfl (by decide +kernel) q1713 dX6_feed_2 (fun S1 H locs eS1 hH => ?_)
  have hF := hF S1 eS1
  refine lv_aload_n hx hb dX6_feed_5 rfl (lv_at hl 0 rfl) ?_
  refine zm_getf X hH 47 (by decide) rfl q1760 dX6_feed_6 ?_
  refine lv_sipush (v := 400) hx hb dX6_feed_9 (by decide) ?_
  refine lv_icmp_ne (tgt := 17) hx hb dX6_feed_12 (by decide) (fun cd => ?_) (fun cd => ?_)
  · have hF := hF.1 cd
    refine lv_bipush (v := 6) hx hb dX6_feed_17 (by decide) ?_
    refine lv_aload_n hx hb dX6_feed_19 rfl (lv_at hl 0 rfl) ?_
    refine zm_getf X hH 47 (by decide) rfl q1760 dX6_feed_20 ?_
    refine lv_imul hx hb dX6_feed_23 ?_
    refine lv_topi (fun x2 ex2 => ?_)
    have hF := hF x2 ex2
    refine lv_istore (lv' := [(7, .int x2), (0, .ref o), (1, .int v1), (2, .int v2), (3, .int v3), (4, .int v4), (5, .int v5), (6, .int v6)]) hx hb dX6_feed_24 hl (by decide) rfl (fun ls hl => ?_)
    refine lv_aload_n hx hb dX6_feed_26 rfl (lv_at hl 1 rfl) ?_
    refine zm_getf X hH 48 (by decide) rfl q1761 dX6_feed_27 ?_
    refine lv_iload hx hb dX6_feed_30 (lv_at hl 0 rfl) ?_
    refine lv_iload_n hx hb dX6_feed_32 rfl (lv_at hl 2 rfl) ?_
    obtain ⟨hI, hF⟩ := hF
    refine zm_iast X hH 48 (by decide) rfl (n := 2400) rfl hI dX6_feed_33 (fun M3 H locs eM3 hH => ?_)
    have hF := hF M3 eM3
    refine lv_aload_n hx hb dX6_feed_34 rfl (lv_at hl 1 rfl) ?_
    refine zm_getf X hH 48 (by decide) rfl q1761 dX6_feed_35 ?_
    refine lv_iload hx hb dX6_feed_38 (lv_at hl 0 rfl) ?_
    refine lv_iconst (v := 1) hx hb dX6_feed_40 (by decide) ?_
    refine lv_iadd hx hb dX6_feed_41 ?_
    refine lv_iload_n hx hb dX6_feed_42 rfl (lv_at hl 3 rfl) ?_
    obtain ⟨hI, hF⟩ := hF
    refine zm_iast X hH 48 (by decide) rfl (n := 2400) rfl hI dX6_feed_43 (fun M4 H locs eM4 hH => ?_)
    have hF := hF M4 eM4
    refine lv_aload_n hx hb dX6_feed_44 rfl (lv_at hl 1 rfl) ?_
    refine zm_getf X hH 48 (by decide) rfl q1761 dX6_feed_45 ?_
    refine lv_iload hx hb dX6_feed_48 (lv_at hl 0 rfl) ?_
    refine lv_iconst (v := 2) hx hb dX6_feed_50 (by decide) ?_
    refine lv_iadd hx hb dX6_feed_51 ?_
    refine lv_iload_n hx hb dX6_feed_52 rfl (lv_at hl 4 rfl) ?_
    obtain ⟨hI, hF⟩ := hF
    refine zm_iast X hH 48 (by decide) rfl (n := 2400) rfl hI dX6_feed_53 (fun M5 H locs eM5 hH => ?_)
    have hF := hF M5 eM5
    refine lv_aload_n hx hb dX6_feed_54 rfl (lv_at hl 1 rfl) ?_
    refine zm_getf X hH 48 (by decide) rfl q1761 dX6_feed_55 ?_
    refine lv_iload hx hb dX6_feed_58 (lv_at hl 0 rfl) ?_
    refine lv_iconst (v := 3) hx hb dX6_feed_60 (by decide) ?_
    refine lv_iadd hx hb dX6_feed_61 ?_
    refine lv_iload hx hb dX6_feed_62 (lv_at hl 5 rfl) ?_
    obtain ⟨hI, hF⟩ := hF
    refine zm_iast X hH 48 (by decide) rfl (n := 2400) rfl hI dX6_feed_64 (fun M6 H locs eM6 hH => ?_)
    have hF := hF M6 eM6
    refine lv_aload_n hx hb dX6_feed_65 rfl (lv_at hl 1 rfl) ?_
    refine zm_getf X hH 48 (by decide) rfl q1761 dX6_feed_66 ?_
    refine lv_iload hx hb dX6_feed_69 (lv_at hl 0 rfl) ?_
    refine lv_iconst (v := 4) hx hb dX6_feed_71 (by decide) ?_
    refine lv_iadd hx hb dX6_feed_72 ?_
    refine lv_iload hx hb dX6_feed_73 (lv_at hl 6 rfl) ?_
    obtain ⟨hI, hF⟩ := hF
    refine zm_iast X hH 48 (by decide) rfl (n := 2400) rfl hI dX6_feed_75 (fun M7 H locs eM7 hH => ?_)
    have hF := hF M7 eM7
    refine lv_aload_n hx hb dX6_feed_76 rfl (lv_at hl 1 rfl) ?_
    refine zm_getf X hH 48 (by decide) rfl q1761 dX6_feed_77 ?_
    refine lv_iload hx hb dX6_feed_80 (lv_at hl 0 rfl) ?_
    refine lv_iconst (v := 5) hx hb dX6_feed_82 (by decide) ?_
    refine lv_iadd hx hb dX6_feed_83 ?_
    refine lv_iload hx hb dX6_feed_84 (lv_at hl 7 rfl) ?_
    obtain ⟨hI, hF⟩ := hF
    refine zm_iast X hH 48 (by decide) rfl (n := 2400) rfl hI dX6_feed_86 (fun M8 H locs eM8 hH => ?_)
    have hF := hF M8 eM8
    refine lv_aload_n hx hb dX6_feed_87 rfl (lv_at hl 1 rfl) ?_
    refine lv_dup hx hb dX6_feed_88 rfl ?_
    refine zm_getf X hH 47 (by decide) rfl q1760 dX6_feed_89 ?_
    refine lv_iconst (v := 1) hx hb dX6_feed_92 (by decide) ?_
    refine lv_iadd hx hb dX6_feed_93 ?_
    refine zm_puti X hH 47 (by decide) rfl rfl (by decide +kernel) q1760 dX6_feed_94 (fun S9 H locs eS9 hH => ?_)
    have hF := hF S9 eS9
    refine lv_aload_n hx hb dX6_feed_97 rfl (lv_at hl 1 rfl) ?_
    refine zm_getf X hH 47 (by decide) rfl q1760 dX6_feed_98 ?_
    exact zm_iret X hH rfl rfl hF dX6_feed_101
  · have hF := hF.2 cd
    refine lv_iconst (v := (-1)) hx hb dX6_feed_15 (by decide) ?_
    exact zm_iret X hH rfl rfl hF dX6_feed_16
set_option maxHeartbeats 4000000 in
set_option maxRecDepth 100000 in
/-- check: what the bytecode asks is what its run needs -/
theorem wm_check (l : Launch) (D : va_G) (cI cZ : ClassId) (ad : Nat → Nat) (o : Nat) (hAd : zm_Ad ad o) (S : Nat → Int32) (M : Nat → Nat → Int32) (Q : Int32 → (Nat → Int32) → (Nat → Nat → Int32) → Prop) (hF : fm_check S M Q) :
    zm_Mi l yX6_check (ws_ yX6_check cX6_check 2 (some .int)) 7 D cI cZ ad o [] S M Q := by
  refine zm_ofi rfl hAd (Nat.le_of_ble_eq_true rfl) ?_
  intro p e s m args below meth c H locs ls X hH hl
  have hx := X.1
  have hb := X.2.1
  have hl : lv_has ls 2 [(0, .ref o)] := hl
  unfold fm_check at hF
  refine lv_aload_n hx hb dX6_check_0 rfl (lv_at hl 0 rfl) ?_
  refine lv_iconst (v := 0) hx hb dX6_check_1 (by decide) ?_
  refine zm_puti X hH 0 (by decide) rfl rfl (by decide +kernel) q1713 dX6_check_2 (fun S1 H locs eS1 hH => ?_)
  have hF := hF S1 eS1
  refine lv_aload_n hx hb dX6_check_5 rfl (lv_at hl 0 rfl) ?_
  refine zm_getf X hH 49 (by decide) rfl q1762 dX6_check_6 ?_
  refine lv_bipush (v := 60) hx hb dX6_check_9 (by decide) ?_
  refine lv_icmp_ne (tgt := 17) hx hb dX6_check_11 (by decide) (fun cd => ?_) (fun cd => ?_)
  · have hF := hF.1 cd
    refine lv_aload_n hx hb dX6_check_17 rfl (lv_at hl 0 rfl) ?_
    refine lv_dup hx hb dX6_check_18 rfl ?_
    refine zm_getf X hH 49 (by decide) rfl q1762 dX6_check_19 ?_
    refine lv_iconst (v := 1) hx hb dX6_check_22 (by decide) ?_
    refine lv_iadd hx hb dX6_check_23 ?_
    refine zm_puti X hH 49 (by decide) rfl rfl (by decide +kernel) q1762 dX6_check_24 (fun S2 H locs eS2 hH => ?_)
    have hF := hF S2 eS2
    refine lv_aload_n hx hb dX6_check_27 rfl (lv_at hl 0 rfl) ?_
    refine zm_calli (As := []) (rest := []) X hH (wm_tries l D cI cZ ad o X.2.2.2.2.2.2.2.2 S2 M _ hF) (cwV 0 X.2.2.2.2.1 (lw_V q2201 q2203 qs80 q95 q2204) rfl rfl rfl (by decide +kernel) ⟨Nat.le_of_ble_eq_true rfl, Nat.le_of_ble_eq_true rfl⟩) rfl hl.1 rfl (Nat.le_of_ble_eq_true rfl) dX6_check_28 (Nat.le_refl 0) (Nat.le_refl 0) (fun r5 S3 M4 H locs hF hH => ?_)
    refine lv_istore_n (lv' := [(1, .int r5), (0, .ref o)]) hx hb dX6_check_31 rfl hl (by decide) rfl (fun ls hl => ?_)
    refine lv_aload_n hx hb dX6_check_32 rfl (lv_at hl 1 rfl) ?_
    refine lv_iconst (v := 0) hx hb dX6_check_33 (by decide) ?_
    refine zm_puti X hH 47 (by decide) rfl rfl (by decide +kernel) q1760 dX6_check_34 (fun S6 H locs eS6 hH => ?_)
    have hF := hF S6 eS6
    refine lv_aload_n hx hb dX6_check_37 rfl (lv_at hl 1 rfl) ?_
    refine zm_callv (As := []) (rest := []) X hH (wm_again l D cI cZ ad o X.2.2.2.2.2.2.2.2 S6 M4 _ hF) (cwV 0 X.2.2.2.2.1 (lw_V q2213 q2215 qs83 q95 q2216) rfl rfl rfl (by decide +kernel) ⟨Nat.le_of_ble_eq_true rfl, Nat.le_of_ble_eq_true rfl⟩) rfl hl.1 rfl (Nat.le_of_ble_eq_true rfl) dX6_check_38 (Nat.le_refl 0) (Nat.le_refl 0) (fun S7 M8 H locs hF hH => ?_)
    refine lv_iload_n hx hb dX6_check_41 rfl (lv_at hl 0 rfl) ?_
    exact zm_iret X hH rfl rfl hF dX6_check_42
  · have hF := hF.2 cd
    refine lv_bipush (v := (-2)) hx hb dX6_check_14 (by decide) ?_
    exact zm_iret X hH rfl rfl hF dX6_check_16
set_option maxHeartbeats 4000000 in
set_option maxRecDepth 100000 in
theorem wm_load_96 {p : Program} {l : Launch} {e : Env} {s : State} {m : MethodId} {args : Array Value} {below : List Frame} {meth : Method} {c : Code} {D : va_G} {cI cZ : ClassId} {ad : Nat → Nat} {o : Nat} {Q : Int32 → (Nat → Int32) → (Nat → Nat → Int32) → Prop} (X : zm_Cx p s m args meth c cX6_load 3 (some .int) D cI cZ ad o) :
    ∀ (S : Nat → Int32) (M : Nat → Nat → Int32) (v1 : Int32), fm_load_96 Q S M v1 → ∀ (H : Heap) (locs : List Loc) (ls : Array Slot), lv_has ls 3 [(0, .ref o), (1, .int v1)] → zm_H D cI cZ ad o S M s H locs → W p l e (zm_R 7) s m args below meth c H locs 0 0 (MQ below (zm_QS Q D cI cZ ad o) args s 0 0 (zm_A ad o)) (F0 m 96 ls []) := by
  have hx := X.1
  have hb := X.2.1
  intro S M v1 hF
  intro H locs ls hl hH
  unfold fm_load_96 at hF
  refine lv_iload_n hx hb dX6_load_96 rfl (lv_at hl 1 rfl) ?_
  refine lv_if_eq (tgt := 107) hx hb dX6_load_97 (by decide) (fun cd => ?_) (fun cd => ?_)
  · have hF := hF.1 cd
    refine lv_iconst (v := (-1)) hx hb dX6_load_107 (by decide) ?_
    exact zm_iret X hH rfl rfl hF dX6_load_108
  · have hF := hF.2 cd
    refine lv_aload_n hx hb dX6_load_100 rfl (lv_at hl 0 rfl) ?_
    refine zm_getf X hH 45 (by decide) rfl q1758 dX6_load_101 ?_
    refine lv_goto (tgt := 108) hx hb dX6_load_104 (by decide) ?_
    exact zm_iret X hH rfl rfl hF dX6_load_108
set_option maxHeartbeats 4000000 in
set_option maxRecDepth 100000 in
theorem wm_load_83 {p : Program} {l : Launch} {e : Env} {s : State} {m : MethodId} {args : Array Value} {below : List Frame} {meth : Method} {c : Code} {D : va_G} {cI cZ : ClassId} {ad : Nat → Nat} {o : Nat} {Q : Int32 → (Nat → Int32) → (Nat → Nat → Int32) → Prop} (X : zm_Cx p s m args meth c cX6_load 3 (some .int) D cI cZ ad o) :
    ∀ (S : Nat → Int32) (M : Nat → Nat → Int32) (v1 : Int32), fm_load_83 Q S M v1 → ∀ (H : Heap) (locs : List Loc) (ls : Array Slot), lv_has ls 3 [(0, .ref o), (1, .int v1)] → zm_H D cI cZ ad o S M s H locs → W p l e (zm_R 7) s m args below meth c H locs 0 0 (MQ below (zm_QS Q D cI cZ ad o) args s 0 0 (zm_A ad o)) (F0 m 83 ls []) := by
  have hx := X.1
  have hb := X.2.1
  intro S M v1 hF
  intro H locs ls hl hH
  unfold fm_load_83 at hF
  refine lv_aload_n hx hb dX6_load_83 rfl (lv_at hl 0 rfl) ?_
  refine lv_iconst (v := 0) hx hb dX6_load_84 (by decide) ?_
  refine zm_puti X hH 47 (by decide) rfl rfl (by decide +kernel) q1760 dX6_load_85 (fun S1 H locs eS1 hH => ?_)
  have hF := hF S1 eS1
  refine lv_iload_n hx hb dX6_load_88 rfl (lv_at hl 1 rfl) ?_
  refine lv_if_ne (tgt := 96) hx hb dX6_load_89 (by decide) (fun cd => ?_) (fun cd => ?_)
  · have hF := hF.1 cd
    exact wm_load_96 X S1 M v1 hF _ _ _ (lv_sub hl [0, 1] rfl) hH
  · have hF := hF.2 cd
    refine lv_aload_n hx hb dX6_load_92 rfl (lv_at hl 0 rfl) ?_
    refine zm_callv (As := []) (rest := []) X hH (wm_again l D cI cZ ad o X.2.2.2.2.2.2.2.2 S1 M _ hF) (cwV 0 X.2.2.2.2.1 (lw_V q2213 q2215 qs83 q95 q2216) rfl rfl rfl (by decide +kernel) ⟨Nat.le_of_ble_eq_true rfl, Nat.le_of_ble_eq_true rfl⟩) rfl hl.1 rfl (Nat.le_of_ble_eq_true rfl) dX6_load_93 (Nat.le_refl 0) (Nat.le_refl 0) (fun S2 M3 H locs hF hH => ?_)
    exact wm_load_96 X S2 M3 v1 hF _ _ _ (lv_sub hl [0, 1] rfl) hH
set_option maxHeartbeats 4000000 in
set_option maxRecDepth 100000 in
theorem wm_load_54 {p : Program} {l : Launch} {e : Env} {s : State} {m : MethodId} {args : Array Value} {below : List Frame} {meth : Method} {c : Code} {D : va_G} {cI cZ : ClassId} {ad : Nat → Nat} {o : Nat} {Q : Int32 → (Nat → Int32) → (Nat → Nat → Int32) → Prop} (X : zm_Cx p s m args meth c cX6_load 3 (some .int) D cI cZ ad o) :
    ∀ (n : Nat) (S : Nat → Int32) (M : Nat → Nat → Int32) (v1 : Int32) (v2 : Int32), fm_load_54 Q n S M v1 v2 → ∀ (H : Heap) (locs : List Loc) (ls : Array Slot), lv_has ls 3 [(0, .ref o), (1, .int v1), (2, .int v2)] → zm_H D cI cZ ad o S M s H locs → W p l e (zm_R 7) s m args below meth c H locs 0 0 (MQ below (zm_QS Q D cI cZ ad o) args s 0 0 (zm_A ad o)) (F0 m 54 ls []) := by
  have hx := X.1
  have hb := X.2.1
  intro n
  induction n with
  | zero =>
    intro S M v1 v2 hF
    exact False.elim hF
  | succ n ih =>
    intro S M v1 v2 hF
    intro H locs ls hl hH
    unfold fm_load_54 at hF
    refine lv_iload_n hx hb dX6_load_54 rfl (lv_at hl 2 rfl) ?_
    refine lv_bipush (v := 6) hx hb dX6_load_55 (by decide) ?_
    refine lv_aload_n hx hb dX6_load_57 rfl (lv_at hl 0 rfl) ?_
    refine zm_getf X hH 45 (by decide) rfl q1758 dX6_load_58 ?_
    refine lv_imul hx hb dX6_load_61 ?_
    refine lv_icmp_ge (tgt := 83) hx hb dX6_load_62 (by decide) (fun cd => ?_) (fun cd => ?_)
    · have hF := hF.1 cd
      exact wm_load_83 X S M v1 hF _ _ _ (lv_sub hl [0, 1] rfl) hH
    · have hF := hF.2 cd
      refine lv_aload_n hx hb dX6_load_65 rfl (lv_at hl 0 rfl) ?_
      refine zm_getf X hH 46 (by decide) rfl q1759 dX6_load_66 ?_
      refine lv_iload_n hx hb dX6_load_69 rfl (lv_at hl 2 rfl) ?_
      refine lv_aload_n hx hb dX6_load_70 rfl (lv_at hl 0 rfl) ?_
      refine zm_getf X hH 48 (by decide) rfl q1761 dX6_load_71 ?_
      refine lv_iload_n hx hb dX6_load_74 rfl (lv_at hl 2 rfl) ?_
      obtain ⟨hI, hF⟩ := hF
      refine zm_iald X hH 48 (by decide) rfl (n := 2400) rfl hI dX6_load_75 ?_
      obtain ⟨hI, hF⟩ := hF
      refine zm_iast X hH 46 (by decide) rfl (n := 2400) rfl hI dX6_load_76 (fun M1 H locs eM1 hH => ?_)
      have hF := hF M1 eM1
      obtain ⟨x2, ex2⟩ : ∃ z : Int32, z = v2 + 1 := ⟨_, rfl⟩
      have hF := hF x2 ex2
      refine lv_iinc (v := x2) (lv' := [(2, .int x2), (0, .ref o), (1, .int v1)]) hx hb dX6_load_77 hl (k := 2) rfl (by rw [ex2]; rfl) (by decide) rfl (fun ls hl => ?_)
      refine lv_goto (tgt := 54) hx hb dX6_load_80 (by decide) ?_
      exact ih S M1 v1 x2 hF _ _ _ (lv_sub hl [1, 2, 0] rfl) hH
set_option maxHeartbeats 4000000 in
set_option maxRecDepth 100000 in
theorem wm_load_39 {p : Program} {l : Launch} {e : Env} {s : State} {m : MethodId} {args : Array Value} {below : List Frame} {meth : Method} {c : Code} {D : va_G} {cI cZ : ClassId} {ad : Nat → Nat} {o : Nat} {Q : Int32 → (Nat → Int32) → (Nat → Nat → Int32) → Prop} (X : zm_Cx p s m args meth c cX6_load 3 (some .int) D cI cZ ad o) :
    ∀ (S : Nat → Int32) (M : Nat → Nat → Int32) (t0 : Int32), fm_load_39 Q S M t0 → ∀ (H : Heap) (locs : List Loc) (ls : Array Slot), lv_has ls 3 [(0, .ref o)] → zm_H D cI cZ ad o S M s H locs → W p l e (zm_R 7) s m args below meth c H locs 0 0 (MQ below (zm_QS Q D cI cZ ad o) args s 0 0 (zm_A ad o)) (F0 m 39 ls [.int t0]) := by
  have hx := X.1
  have hb := X.2.1
  intro S M t0 hF
  intro H locs ls hl hH
  unfold fm_load_39 at hF
  refine lv_istore_n (lv' := [(1, .int t0), (0, .ref o)]) hx hb dX6_load_39 rfl hl (by decide) rfl (fun ls hl => ?_)
  refine lv_iload_n hx hb dX6_load_40 rfl (lv_at hl 0 rfl) ?_
  refine lv_if_eq (tgt := 83) hx hb dX6_load_41 (by decide) (fun cd => ?_) (fun cd => ?_)
  · have hF := hF.1 cd
    exact wm_load_83 X S M t0 hF _ _ _ (lv_sub hl [1, 0] rfl) hH
  · have hF := hF.2 cd
    refine lv_aload_n hx hb dX6_load_44 rfl (lv_at hl 1 rfl) ?_
    refine lv_aload_n hx hb dX6_load_45 rfl (lv_at hl 1 rfl) ?_
    refine zm_getf X hH 47 (by decide) rfl q1760 dX6_load_46 ?_
    refine zm_puti X hH 45 (by decide) rfl rfl (by decide +kernel) q1758 dX6_load_49 (fun S1 H locs eS1 hH => ?_)
    have hF := hF S1 eS1
    refine lv_iconst (v := 0) hx hb dX6_load_52 (by decide) ?_
    refine lv_istore_n (lv' := [(2, .int 0), (1, .int t0), (0, .ref o)]) hx hb dX6_load_53 rfl hl (by decide) rfl (fun ls hl => ?_)
    obtain ⟨n9, hF⟩ := hF
    exact wm_load_54 X n9 S1 M t0 0 hF _ _ _ (lv_sub hl [2, 1, 0] rfl) hH
set_option maxHeartbeats 4000000 in
set_option maxRecDepth 100000 in
/-- load: what the bytecode asks is what its run needs -/
theorem wm_load (l : Launch) (D : va_G) (cI cZ : ClassId) (ad : Nat → Nat) (o : Nat) (hAd : zm_Ad ad o) (S : Nat → Int32) (M : Nat → Nat → Int32) (Q : Int32 → (Nat → Int32) → (Nat → Nat → Int32) → Prop) (hF : fm_load S M Q) :
    zm_Mi l yX6_load (ws_ yX6_load cX6_load 3 (some .int)) 7 D cI cZ ad o [] S M Q := by
  refine zm_ofi rfl hAd (Nat.le_of_ble_eq_true rfl) ?_
  intro p e s m args below meth c H locs ls X hH hl
  have hx := X.1
  have hb := X.2.1
  have hl : lv_has ls 3 [(0, .ref o)] := hl
  unfold fm_load at hF
  refine lv_aload_n hx hb dX6_load_0 rfl (lv_at hl 0 rfl) ?_
  refine lv_iconst (v := 0) hx hb dX6_load_1 (by decide) ?_
  refine zm_puti X hH 0 (by decide) rfl rfl (by decide +kernel) q1713 dX6_load_2 (fun S1 H locs eS1 hH => ?_)
  have hF := hF S1 eS1
  refine lv_aload_n hx hb dX6_load_5 rfl (lv_at hl 0 rfl) ?_
  refine zm_getf X hH 49 (by decide) rfl q1762 dX6_load_6 ?_
  refine lv_bipush (v := 60) hx hb dX6_load_9 (by decide) ?_
  refine lv_icmp_ne (tgt := 17) hx hb dX6_load_11 (by decide) (fun cd => ?_) (fun cd => ?_)
  · have hF := hF.1 cd
    refine lv_aload_n hx hb dX6_load_17 rfl (lv_at hl 0 rfl) ?_
    refine lv_dup hx hb dX6_load_18 rfl ?_
    refine zm_getf X hH 49 (by decide) rfl q1762 dX6_load_19 ?_
    refine lv_iconst (v := 1) hx hb dX6_load_22 (by decide) ?_
    refine lv_iadd hx hb dX6_load_23 ?_
    refine zm_puti X hH 49 (by decide) rfl rfl (by decide +kernel) q1762 dX6_load_24 (fun S2 H locs eS2 hH => ?_)
    have hF := hF S2 eS2
    refine lv_aload_n hx hb dX6_load_27 rfl (lv_at hl 0 rfl) ?_
    refine zm_calli (As := []) (rest := []) X hH (wm_tries l D cI cZ ad o X.2.2.2.2.2.2.2.2 S2 M _ hF) (cwV 0 X.2.2.2.2.1 (lw_V q2201 q2203 qs80 q95 q2204) rfl rfl rfl (by decide +kernel) ⟨Nat.le_of_ble_eq_true rfl, Nat.le_of_ble_eq_true rfl⟩) rfl hl.1 rfl (Nat.le_of_ble_eq_true rfl) dX6_load_28 (Nat.le_refl 0) (Nat.le_refl 0) (fun r5 S3 M4 H locs hF hH => ?_)
    refine lv_if_ge (tgt := 38) hx hb dX6_load_31 (by decide) (fun cd => ?_) (fun cd => ?_)
    · have hF := hF.1 cd
      refine lv_iconst (v := 0) hx hb dX6_load_38 (by decide) ?_
      exact wm_load_39 X S3 M4 0 hF _ _ _ (lv_sub hl [0] rfl) hH
    · have hF := hF.2 cd
      refine lv_iconst (v := 1) hx hb dX6_load_34 (by decide) ?_
      refine lv_goto (tgt := 39) hx hb dX6_load_35 (by decide) ?_
      exact wm_load_39 X S3 M4 1 hF _ _ _ (lv_sub hl [0] rfl) hH
  · have hF := hF.2 cd
    refine lv_bipush (v := (-2)) hx hb dX6_load_14 (by decide) ?_
    exact zm_iret X hH rfl rfl hF dX6_load_16
set_option maxHeartbeats 4000000 in
set_option maxRecDepth 100000 in
/-- undo: what the bytecode asks is what its run needs -/
theorem wm_undo (l : Launch) (D : va_G) (cI cZ : ClassId) (ad : Nat → Nat) (o : Nat) (hAd : zm_Ad ad o) (S : Nat → Int32) (M : Nat → Nat → Int32) (Q : Int32 → (Nat → Int32) → (Nat → Nat → Int32) → Prop) (hF : fm_undo S M Q) :
    zm_Mi l yX6_undo (ws_ yX6_undo cX6_undo 1 (some .int)) 7 D cI cZ ad o [] S M Q := by
  refine zm_ofi rfl hAd (Nat.le_of_ble_eq_true rfl) ?_
  intro p e s m args below meth c H locs ls X hH hl
  have hx := X.1
  have hb := X.2.1
  have hl : lv_has ls 1 [(0, .ref o)] := hl
  unfold fm_undo at hF
  refine lv_aload_n hx hb dX6_undo_0 rfl (lv_at hl 0 rfl) ?_
  refine lv_iconst (v := 0) hx hb dX6_undo_1 (by decide) ?_
  refine zm_puti X hH 0 (by decide) rfl rfl (by decide +kernel) q1713 dX6_undo_2 (fun S1 H locs eS1 hH => ?_)
  have hF := hF S1 eS1
  refine lv_aload_n hx hb dX6_undo_5 rfl (lv_at hl 0 rfl) ?_
  refine zm_getf X hH 45 (by decide) rfl q1758 dX6_undo_6 ?_
  refine lv_if_ne (tgt := 14) hx hb dX6_undo_9 (by decide) (fun cd => ?_) (fun cd => ?_)
  · have hF := hF.1 cd
    refine lv_aload_n hx hb dX6_undo_14 rfl (lv_at hl 0 rfl) ?_
    refine zm_getf X hH 49 (by decide) rfl q1762 dX6_undo_15 ?_
    refine lv_bipush (v := 60) hx hb dX6_undo_18 (by decide) ?_
    refine lv_icmp_ne (tgt := 26) hx hb dX6_undo_20 (by decide) (fun cd => ?_) (fun cd => ?_)
    · have hF := hF.1 cd
      refine lv_aload_n hx hb dX6_undo_26 rfl (lv_at hl 0 rfl) ?_
      refine lv_dup hx hb dX6_undo_27 rfl ?_
      refine zm_getf X hH 49 (by decide) rfl q1762 dX6_undo_28 ?_
      refine lv_iconst (v := 1) hx hb dX6_undo_31 (by decide) ?_
      refine lv_iadd hx hb dX6_undo_32 ?_
      refine zm_puti X hH 49 (by decide) rfl rfl (by decide +kernel) q1762 dX6_undo_33 (fun S2 H locs eS2 hH => ?_)
      have hF := hF S2 eS2
      refine lv_aload_n hx hb dX6_undo_36 rfl (lv_at hl 0 rfl) ?_
      refine lv_dup hx hb dX6_undo_37 rfl ?_
      refine zm_getf X hH 45 (by decide) rfl q1758 dX6_undo_38 ?_
      refine lv_iconst (v := 1) hx hb dX6_undo_41 (by decide) ?_
      refine lv_isub hx hb dX6_undo_42 ?_
      refine zm_puti X hH 45 (by decide) rfl rfl (by decide +kernel) q1758 dX6_undo_43 (fun S3 H locs eS3 hH => ?_)
      have hF := hF S3 eS3
      refine lv_aload_n hx hb dX6_undo_46 rfl (lv_at hl 0 rfl) ?_
      refine zm_callv (As := []) (rest := []) X hH (wm_again l D cI cZ ad o X.2.2.2.2.2.2.2.2 S3 M _ hF) (cwV 0 X.2.2.2.2.1 (lw_V q2213 q2215 qs83 q95 q2216) rfl rfl rfl (by decide +kernel) ⟨Nat.le_of_ble_eq_true rfl, Nat.le_of_ble_eq_true rfl⟩) rfl hl.1 rfl (Nat.le_of_ble_eq_true rfl) dX6_undo_47 (Nat.le_refl 0) (Nat.le_refl 0) (fun S4 M5 H locs hF hH => ?_)
      refine lv_aload_n hx hb dX6_undo_50 rfl (lv_at hl 0 rfl) ?_
      refine zm_getf X hH 46 (by decide) rfl q1759 dX6_undo_51 ?_
      refine lv_bipush (v := 6) hx hb dX6_undo_54 (by decide) ?_
      refine lv_aload_n hx hb dX6_undo_56 rfl (lv_at hl 0 rfl) ?_
      refine zm_getf X hH 45 (by decide) rfl q1758 dX6_undo_57 ?_
      refine lv_imul hx hb dX6_undo_60 ?_
      obtain ⟨hI, hF⟩ := hF
      refine zm_iald X hH 46 (by decide) rfl (n := 2400) rfl hI dX6_undo_61 ?_
      exact zm_iret X hH rfl rfl hF dX6_undo_62
    · have hF := hF.2 cd
      refine lv_bipush (v := (-2)) hx hb dX6_undo_23 (by decide) ?_
      exact zm_iret X hH rfl rfl hF dX6_undo_25
  · have hF := hF.2 cd
    refine lv_iconst (v := (-1)) hx hb dX6_undo_12 (by decide) ?_
    exact zm_iret X hH rfl rfl hF dX6_undo_13
set_option maxHeartbeats 4000000 in
set_option maxRecDepth 100000 in
theorem wm_inState_25 {p : Program} {l : Launch} {e : Env} {s : State} {m : MethodId} {args : Array Value} {below : List Frame} {meth : Method} {c : Code} {D : va_G} {cI cZ : ClassId} {ad : Nat → Nat} {o : Nat} {Q : Int32 → Prop} {K4 : (Nat → Int32) → (Nat → Nat → Int32) → Int32 → Int32 → Int32 → Prop} {S0 : Nat → Int32} {M0 : Nat → Nat → Int32} (X : zm_Cx p s m args meth c cX6_inState 4 (some .int) D cI cZ ad o) (hK4 : ∀ (S : Nat → Int32) (M : Nat → Nat → Int32) (v1 : Int32) (v2 : Int32) (v3 : Int32), K4 S M v1 v2 v3 → ∀ (H : Heap) (locs : List Loc) (ls : Array Slot), S0 = S → M0 = M → lv_has ls 4 [(0, .ref o), (1, .int v1), (2, .int v2), (3, .int v3)] → zm_H D cI cZ ad o S M s H locs → W p l e (zm_R 0) s m args below meth c H locs 0 0 (MQ below (zm_QS (fun r S1 M1 => Q r ∧ S0 = S1 ∧ M0 = M1) D cI cZ ad o) args s 0 0 (zm_A ad o)) (F0 m 4 ls [])) :
    ∀ (S : Nat → Int32) (M : Nat → Nat → Int32) (v1 : Int32) (v2 : Int32) (v3 : Int32), fm_inState_25 Q K4 S M v1 v2 v3 → ∀ (H : Heap) (locs : List Loc) (ls : Array Slot), S0 = S → M0 = M → lv_has ls 4 [(0, .ref o), (1, .int v1), (2, .int v2), (3, .int v3)] → zm_H D cI cZ ad o S M s H locs → W p l e (zm_R 0) s m args below meth c H locs 0 0 (MQ below (zm_QS (fun r S1 M1 => Q r ∧ S0 = S1 ∧ M0 = M1) D cI cZ ad o) args s 0 0 (zm_A ad o)) (F0 m 25 ls []) := by
  have hx := X.1
  have hb := X.2.1
  intro S M v1 v2 v3 hF
  intro H locs ls eS eM hl hH
  unfold fm_inState_25 at hF
  obtain ⟨x1, ex1⟩ : ∃ z : Int32, z = v3 + 1 := ⟨_, rfl⟩
  have hF := hF x1 ex1
  refine lv_iinc (v := x1) (lv' := [(3, .int x1), (0, .ref o), (1, .int v1), (2, .int v2)]) hx hb dX6_inState_25 hl (k := 3) rfl (by rw [ex1]; rfl) (by decide) rfl (fun ls hl => ?_)
  refine lv_goto (tgt := 4) hx hb dX6_inState_28 (by decide) ?_
  exact hK4 S M v1 v2 x1 hF _ _ _ eS eM (lv_sub hl [1, 2, 3, 0] rfl) hH
set_option maxHeartbeats 4000000 in
set_option maxRecDepth 100000 in
theorem wm_inState_4 {p : Program} {l : Launch} {e : Env} {s : State} {m : MethodId} {args : Array Value} {below : List Frame} {meth : Method} {c : Code} {D : va_G} {cI cZ : ClassId} {ad : Nat → Nat} {o : Nat} {Q : Int32 → Prop} {S0 : Nat → Int32} {M0 : Nat → Nat → Int32} (X : zm_Cx p s m args meth c cX6_inState 4 (some .int) D cI cZ ad o) :
    ∀ (n : Nat) (S : Nat → Int32) (M : Nat → Nat → Int32) (v1 : Int32) (v2 : Int32) (v3 : Int32), fm_inState_4 Q n S M v1 v2 v3 → ∀ (H : Heap) (locs : List Loc) (ls : Array Slot), S0 = S → M0 = M → lv_has ls 4 [(0, .ref o), (1, .int v1), (2, .int v2), (3, .int v3)] → zm_H D cI cZ ad o S M s H locs → W p l e (zm_R 0) s m args below meth c H locs 0 0 (MQ below (zm_QS (fun r S1 M1 => Q r ∧ S0 = S1 ∧ M0 = M1) D cI cZ ad o) args s 0 0 (zm_A ad o)) (F0 m 4 ls []) := by
  have hx := X.1
  have hb := X.2.1
  intro n
  induction n with
  | zero =>
    intro S M v1 v2 v3 hF
    exact False.elim hF
  | succ n ih =>
    intro S M v1 v2 v3 hF
    intro H locs ls eS eM hl hH
    unfold fm_inState_4 at hF
    refine lv_iload_n hx hb dX6_inState_4 rfl (lv_at hl 3 rfl) ?_
    refine lv_aload_n hx hb dX6_inState_5 rfl (lv_at hl 0 rfl) ?_
    refine zm_getf X hH 9 (by decide) rfl q1722 dX6_inState_6 ?_
    refine lv_icmp_ge (tgt := 31) hx hb dX6_inState_9 (by decide) (fun cd => ?_) (fun cd => ?_)
    · have hF := hF.1 cd
      refine lv_iload_n hx hb dX6_inState_31 rfl (lv_at hl 2 rfl) ?_
      exact zm_iret X hH rfl rfl ⟨hF, eS, eM⟩ dX6_inState_32
    · have hF := hF.2 cd
      refine lv_aload_n hx hb dX6_inState_12 rfl (lv_at hl 0 rfl) ?_
      refine zm_getf X hH 11 (by decide) rfl q1724 dX6_inState_13 ?_
      refine lv_iload_n hx hb dX6_inState_16 rfl (lv_at hl 3 rfl) ?_
      obtain ⟨hI, hF⟩ := hF
      refine zm_iald X hH 11 (by decide) rfl (n := 150) rfl hI dX6_inState_17 ?_
      refine lv_iload_n hx hb dX6_inState_18 rfl (lv_at hl 1 rfl) ?_
      refine lv_icmp_ne (tgt := 25) hx hb dX6_inState_19 (by decide) (fun cd => ?_) (fun cd => ?_)
      · have hF := hF.1 cd
        exact wm_inState_25 X ih S M v1 v2 v3 hF _ _ _ eS eM (lv_sub hl [0, 1, 2, 3] rfl) hH
      · have hF := hF.2 cd
        obtain ⟨x1, ex1⟩ : ∃ z : Int32, z = v2 + 1 := ⟨_, rfl⟩
        have hF := hF x1 ex1
        refine lv_iinc (v := x1) (lv' := [(2, .int x1), (0, .ref o), (1, .int v1), (3, .int v3)]) hx hb dX6_inState_22 hl (k := 2) rfl (by rw [ex1]; rfl) (by decide) rfl (fun ls hl => ?_)
        exact wm_inState_25 X ih S M v1 x1 v3 hF _ _ _ eS eM (lv_sub hl [1, 2, 0, 3] rfl) hH
set_option maxHeartbeats 4000000 in
set_option maxRecDepth 100000 in
/-- inState: what the bytecode asks is what its run needs -/
theorem wm_inState (l : Launch) (D : va_G) (cI cZ : ClassId) (ad : Nat → Nat) (o : Nat) (hAd : zm_Ad ad o) (S : Nat → Int32) (M : Nat → Nat → Int32) (v1 : Int32) (Q : Int32 → Prop) (hF : fm_inState S M v1 Q) :
    zm_Mi l yX6_inState (ws_ yX6_inState cX6_inState 4 (some .int)) 0 D cI cZ ad o [.int v1] S M (fun r S1 M1 => Q r ∧ S = S1 ∧ M = M1) := by
  refine zm_ofi rfl hAd (Nat.le_of_ble_eq_true rfl) ?_
  intro p e s m args below meth c H locs ls X hH hl
  have hx := X.1
  have hb := X.2.1
  have hl : lv_has ls 4 [(0, .ref o), (1, .int v1)] := hl
  unfold fm_inState at hF
  refine lv_iconst (v := 0) hx hb dX6_inState_0 (by decide) ?_
  refine lv_istore_n (lv' := [(2, .int 0), (0, .ref o), (1, .int v1)]) hx hb dX6_inState_1 rfl hl (by decide) rfl (fun ls hl => ?_)
  refine lv_iconst (v := 0) hx hb dX6_inState_2 (by decide) ?_
  refine lv_istore_n (lv' := [(3, .int 0), (2, .int 0), (0, .ref o), (1, .int v1)]) hx hb dX6_inState_3 rfl hl (by decide) rfl (fun ls hl => ?_)
  obtain ⟨n9, hF⟩ := hF
  exact wm_inState_4 X n9 S M v1 0 0 hF _ _ _ rfl rfl (lv_sub hl [2, 3, 1, 0] rfl) hH
set_option maxHeartbeats 4000000 in
set_option maxRecDepth 100000 in
theorem wm_inWay_25 {p : Program} {l : Launch} {e : Env} {s : State} {m : MethodId} {args : Array Value} {below : List Frame} {meth : Method} {c : Code} {D : va_G} {cI cZ : ClassId} {ad : Nat → Nat} {o : Nat} {Q : Int32 → Prop} {K4 : (Nat → Int32) → (Nat → Nat → Int32) → Int32 → Int32 → Int32 → Prop} {S0 : Nat → Int32} {M0 : Nat → Nat → Int32} (X : zm_Cx p s m args meth c cX6_inWay 4 (some .int) D cI cZ ad o) (hK4 : ∀ (S : Nat → Int32) (M : Nat → Nat → Int32) (v1 : Int32) (v2 : Int32) (v3 : Int32), K4 S M v1 v2 v3 → ∀ (H : Heap) (locs : List Loc) (ls : Array Slot), S0 = S → M0 = M → lv_has ls 4 [(0, .ref o), (1, .int v1), (2, .int v2), (3, .int v3)] → zm_H D cI cZ ad o S M s H locs → W p l e (zm_R 0) s m args below meth c H locs 0 0 (MQ below (zm_QS (fun r S1 M1 => Q r ∧ S0 = S1 ∧ M0 = M1) D cI cZ ad o) args s 0 0 (zm_A ad o)) (F0 m 4 ls [])) :
    ∀ (S : Nat → Int32) (M : Nat → Nat → Int32) (v1 : Int32) (v2 : Int32) (v3 : Int32), fm_inWay_25 Q K4 S M v1 v2 v3 → ∀ (H : Heap) (locs : List Loc) (ls : Array Slot), S0 = S → M0 = M → lv_has ls 4 [(0, .ref o), (1, .int v1), (2, .int v2), (3, .int v3)] → zm_H D cI cZ ad o S M s H locs → W p l e (zm_R 0) s m args below meth c H locs 0 0 (MQ below (zm_QS (fun r S1 M1 => Q r ∧ S0 = S1 ∧ M0 = M1) D cI cZ ad o) args s 0 0 (zm_A ad o)) (F0 m 25 ls []) := by
  have hx := X.1
  have hb := X.2.1
  intro S M v1 v2 v3 hF
  intro H locs ls eS eM hl hH
  unfold fm_inWay_25 at hF
  obtain ⟨x1, ex1⟩ : ∃ z : Int32, z = v3 + 1 := ⟨_, rfl⟩
  have hF := hF x1 ex1
  refine lv_iinc (v := x1) (lv' := [(3, .int x1), (0, .ref o), (1, .int v1), (2, .int v2)]) hx hb dX6_inWay_25 hl (k := 3) rfl (by rw [ex1]; rfl) (by decide) rfl (fun ls hl => ?_)
  refine lv_goto (tgt := 4) hx hb dX6_inWay_28 (by decide) ?_
  exact hK4 S M v1 v2 x1 hF _ _ _ eS eM (lv_sub hl [1, 2, 3, 0] rfl) hH
set_option maxHeartbeats 4000000 in
set_option maxRecDepth 100000 in
theorem wm_inWay_4 {p : Program} {l : Launch} {e : Env} {s : State} {m : MethodId} {args : Array Value} {below : List Frame} {meth : Method} {c : Code} {D : va_G} {cI cZ : ClassId} {ad : Nat → Nat} {o : Nat} {Q : Int32 → Prop} {S0 : Nat → Int32} {M0 : Nat → Nat → Int32} (X : zm_Cx p s m args meth c cX6_inWay 4 (some .int) D cI cZ ad o) :
    ∀ (n : Nat) (S : Nat → Int32) (M : Nat → Nat → Int32) (v1 : Int32) (v2 : Int32) (v3 : Int32), fm_inWay_4 Q n S M v1 v2 v3 → ∀ (H : Heap) (locs : List Loc) (ls : Array Slot), S0 = S → M0 = M → lv_has ls 4 [(0, .ref o), (1, .int v1), (2, .int v2), (3, .int v3)] → zm_H D cI cZ ad o S M s H locs → W p l e (zm_R 0) s m args below meth c H locs 0 0 (MQ below (zm_QS (fun r S1 M1 => Q r ∧ S0 = S1 ∧ M0 = M1) D cI cZ ad o) args s 0 0 (zm_A ad o)) (F0 m 4 ls []) := by
  have hx := X.1
  have hb := X.2.1
  intro n
  induction n with
  | zero =>
    intro S M v1 v2 v3 hF
    exact False.elim hF
  | succ n ih =>
    intro S M v1 v2 v3 hF
    intro H locs ls eS eM hl hH
    unfold fm_inWay_4 at hF
    refine lv_iload_n hx hb dX6_inWay_4 rfl (lv_at hl 3 rfl) ?_
    refine lv_aload_n hx hb dX6_inWay_5 rfl (lv_at hl 0 rfl) ?_
    refine zm_getf X hH 27 (by decide) rfl q1740 dX6_inWay_6 ?_
    refine lv_icmp_ge (tgt := 31) hx hb dX6_inWay_9 (by decide) (fun cd => ?_) (fun cd => ?_)
    · have hF := hF.1 cd
      refine lv_iload_n hx hb dX6_inWay_31 rfl (lv_at hl 2 rfl) ?_
      exact zm_iret X hH rfl rfl ⟨hF, eS, eM⟩ dX6_inWay_32
    · have hF := hF.2 cd
      refine lv_aload_n hx hb dX6_inWay_12 rfl (lv_at hl 0 rfl) ?_
      refine zm_getf X hH 30 (by decide) rfl q1743 dX6_inWay_13 ?_
      refine lv_iload_n hx hb dX6_inWay_16 rfl (lv_at hl 3 rfl) ?_
      obtain ⟨hI, hF⟩ := hF
      refine zm_iald X hH 30 (by decide) rfl (n := 150) rfl hI dX6_inWay_17 ?_
      refine lv_iload_n hx hb dX6_inWay_18 rfl (lv_at hl 1 rfl) ?_
      refine lv_icmp_ne (tgt := 25) hx hb dX6_inWay_19 (by decide) (fun cd => ?_) (fun cd => ?_)
      · have hF := hF.1 cd
        exact wm_inWay_25 X ih S M v1 v2 v3 hF _ _ _ eS eM (lv_sub hl [0, 1, 2, 3] rfl) hH
      · have hF := hF.2 cd
        obtain ⟨x1, ex1⟩ : ∃ z : Int32, z = v2 + 1 := ⟨_, rfl⟩
        have hF := hF x1 ex1
        refine lv_iinc (v := x1) (lv' := [(2, .int x1), (0, .ref o), (1, .int v1), (3, .int v3)]) hx hb dX6_inWay_22 hl (k := 2) rfl (by rw [ex1]; rfl) (by decide) rfl (fun ls hl => ?_)
        exact wm_inWay_25 X ih S M v1 x1 v3 hF _ _ _ eS eM (lv_sub hl [1, 2, 0, 3] rfl) hH
set_option maxHeartbeats 4000000 in
set_option maxRecDepth 100000 in
/-- inWay: what the bytecode asks is what its run needs -/
theorem wm_inWay (l : Launch) (D : va_G) (cI cZ : ClassId) (ad : Nat → Nat) (o : Nat) (hAd : zm_Ad ad o) (S : Nat → Int32) (M : Nat → Nat → Int32) (v1 : Int32) (Q : Int32 → Prop) (hF : fm_inWay S M v1 Q) :
    zm_Mi l yX6_inWay (ws_ yX6_inWay cX6_inWay 4 (some .int)) 0 D cI cZ ad o [.int v1] S M (fun r S1 M1 => Q r ∧ S = S1 ∧ M = M1) := by
  refine zm_ofi rfl hAd (Nat.le_of_ble_eq_true rfl) ?_
  intro p e s m args below meth c H locs ls X hH hl
  have hx := X.1
  have hb := X.2.1
  have hl : lv_has ls 4 [(0, .ref o), (1, .int v1)] := hl
  unfold fm_inWay at hF
  refine lv_iconst (v := 0) hx hb dX6_inWay_0 (by decide) ?_
  refine lv_istore_n (lv' := [(2, .int 0), (0, .ref o), (1, .int v1)]) hx hb dX6_inWay_1 rfl hl (by decide) rfl (fun ls hl => ?_)
  refine lv_iconst (v := 0) hx hb dX6_inWay_2 (by decide) ?_
  refine lv_istore_n (lv' := [(3, .int 0), (2, .int 0), (0, .ref o), (1, .int v1)]) hx hb dX6_inWay_3 rfl hl (by decide) rfl (fun ls hl => ?_)
  obtain ⟨n9, hF⟩ := hF
  exact wm_inWay_4 X n9 S M v1 0 0 hF _ _ _ rfl rfl (lv_sub hl [2, 3, 1, 0] rfl) hH
set_option maxHeartbeats 4000000 in
set_option maxRecDepth 100000 in
/-- count: what the bytecode asks is what its run needs -/
theorem wm_count (l : Launch) (D : va_G) (cI cZ : ClassId) (ad : Nat → Nat) (o : Nat) (hAd : zm_Ad ad o) (S : Nat → Int32) (M : Nat → Nat → Int32) (v1 : Int32) (Q : Int32 → (Nat → Int32) → (Nat → Nat → Int32) → Prop) (hF : fm_count S M v1 Q) :
    zm_Mi l yX6_count (ws_ yX6_count cX6_count 2 (some .int)) 1 D cI cZ ad o [.int v1] S M Q := by
  refine zm_ofi rfl hAd (Nat.le_of_ble_eq_true rfl) ?_
  intro p e s m args below meth c H locs ls X hH hl
  have hx := X.1
  have hb := X.2.1
  have hl : lv_has ls 2 [(0, .ref o), (1, .int v1)] := hl
  unfold fm_count at hF
  refine lv_aload_n hx hb dX6_count_0 rfl (lv_at hl 0 rfl) ?_
  refine lv_iconst (v := 0) hx hb dX6_count_1 (by decide) ?_
  refine zm_puti X hH 0 (by decide) rfl rfl (by decide +kernel) q1713 dX6_count_2 (fun S1 H locs eS1 hH => ?_)
  have hF := hF S1 eS1
  refine lv_iload_n hx hb dX6_count_5 rfl (lv_at hl 1 rfl) ?_
  by_cases hsw : v1.toInt < 0 ∨ 13 < v1.toInt
  · have hF := hF.1 hsw
    refine lv_tableOut (tgt := 152) hx hb dX6_count_6 hsw (by decide) ?_
    refine lv_iconst (v := (-1)) hx hb dX6_count_152 (by decide) ?_
    exact zm_iret X hH rfl rfl hF dX6_count_153
  · have hF := hF.2
    have hsw2 : v1.toInt = 0 ∨ v1.toInt = 1 ∨ v1.toInt = 2 ∨ v1.toInt = 3 ∨ v1.toInt = 4 ∨ v1.toInt = 5 ∨ v1.toInt = 6 ∨ v1.toInt = 7 ∨ v1.toInt = 8 ∨ v1.toInt = 9 ∨ v1.toInt = 10 ∨ v1.toInt = 11 ∨ v1.toInt = 12 ∨ v1.toInt = 13 := by omega
    rcases hsw2 with hk | hk | hk | hk | hk | hk | hk | hk | hk | hk | hk | hk | hk | hk
    · have hF := hF.1 hk
      refine lv_tableIn (tgt := 76) hx hb dX6_count_6 (by rw [hk]; decide) (by rw [hk]; decide) (by rw [hk]; rfl) (by decide) ?_
      refine lv_aload_n hx hb dX6_count_76 rfl (lv_at hl 0 rfl) ?_
      refine zm_getf X hH 2 (by decide) rfl q1715 dX6_count_77 ?_
      exact zm_iret X hH rfl rfl hF dX6_count_80
    · have hF := hF.2.1 hk
      refine lv_tableIn (tgt := 81) hx hb dX6_count_6 (by rw [hk]; decide) (by rw [hk]; decide) (by rw [hk]; rfl) (by decide) ?_
      refine lv_aload_n hx hb dX6_count_81 rfl (lv_at hl 0 rfl) ?_
      refine zm_getf X hH 9 (by decide) rfl q1722 dX6_count_82 ?_
      exact zm_iret X hH rfl rfl hF dX6_count_85
    · have hF := hF.2.2.1 hk
      refine lv_tableIn (tgt := 86) hx hb dX6_count_6 (by rw [hk]; decide) (by rw [hk]; decide) (by rw [hk]; rfl) (by decide) ?_
      refine lv_aload_n hx hb dX6_count_86 rfl (lv_at hl 0 rfl) ?_
      refine zm_getf X hH 27 (by decide) rfl q1740 dX6_count_87 ?_
      exact zm_iret X hH rfl rfl hF dX6_count_90
    · have hF := hF.2.2.2.1 hk
      refine lv_tableIn (tgt := 91) hx hb dX6_count_6 (by rw [hk]; decide) (by rw [hk]; decide) (by rw [hk]; rfl) (by decide) ?_
      refine lv_aload_n hx hb dX6_count_91 rfl (lv_at hl 0 rfl) ?_
      refine zm_getf X hH 1 (by decide) rfl q1714 dX6_count_92 ?_
      exact zm_iret X hH rfl rfl hF dX6_count_95
    · have hF := hF.2.2.2.2.1 hk
      refine lv_tableIn (tgt := 96) hx hb dX6_count_6 (by rw [hk]; decide) (by rw [hk]; decide) (by rw [hk]; rfl) (by decide) ?_
      refine lv_aload_n hx hb dX6_count_96 rfl (lv_at hl 0 rfl) ?_
      refine zm_getf X hH 45 (by decide) rfl q1758 dX6_count_97 ?_
      exact zm_iret X hH rfl rfl hF dX6_count_100
    · have hF := hF.2.2.2.2.2.1 hk
      refine lv_tableIn (tgt := 101) hx hb dX6_count_6 (by rw [hk]; decide) (by rw [hk]; decide) (by rw [hk]; rfl) (by decide) ?_
      refine lv_aload_n hx hb dX6_count_101 rfl (lv_at hl 0 rfl) ?_
      refine zm_getf X hH 44 (by decide) rfl q1757 dX6_count_102 ?_
      exact zm_iret X hH rfl rfl hF dX6_count_105
    · have hF := hF.2.2.2.2.2.2.1 hk
      refine lv_tableIn (tgt := 106) hx hb dX6_count_6 (by rw [hk]; decide) (by rw [hk]; decide) (by rw [hk]; rfl) (by decide) ?_
      refine lv_aload_n hx hb dX6_count_106 rfl (lv_at hl 0 rfl) ?_
      refine lv_iconst (v := 2) hx hb dX6_count_107 (by decide) ?_
      refine zm_calli (As := [.int 2]) (rest := []) X hH (wm_inWay l D cI cZ ad o X.2.2.2.2.2.2.2.2 S1 M 2 _ hF) (cwV 1 X.2.2.2.2.1 (lw_V q2229 q2231 qs84 q95 q2232) rfl rfl rfl (by decide +kernel) ⟨Nat.le_of_ble_eq_true rfl, Nat.le_of_ble_eq_true rfl⟩) rfl hl.1 rfl (Nat.le_of_ble_eq_true rfl) dX6_count_108 (Nat.le_refl 0) (Nat.le_refl 0) (fun r4 S2 M3 H locs hF hH => ?_)
      obtain ⟨hF, e9, e8⟩ := hF; subst e9; subst e8
      exact zm_iret X hH rfl rfl hF dX6_count_111
    · have hF := hF.2.2.2.2.2.2.2.1 hk
      refine lv_tableIn (tgt := 112) hx hb dX6_count_6 (by rw [hk]; decide) (by rw [hk]; decide) (by rw [hk]; rfl) (by decide) ?_
      refine lv_aload_n hx hb dX6_count_112 rfl (lv_at hl 0 rfl) ?_
      refine lv_iconst (v := 3) hx hb dX6_count_113 (by decide) ?_
      refine zm_calli (As := [.int 3]) (rest := []) X hH (wm_inWay l D cI cZ ad o X.2.2.2.2.2.2.2.2 S1 M 3 _ hF) (cwV 1 X.2.2.2.2.1 (lw_V q2229 q2231 qs84 q95 q2232) rfl rfl rfl (by decide +kernel) ⟨Nat.le_of_ble_eq_true rfl, Nat.le_of_ble_eq_true rfl⟩) rfl hl.1 rfl (Nat.le_of_ble_eq_true rfl) dX6_count_114 (Nat.le_refl 0) (Nat.le_refl 0) (fun r7 S5 M6 H locs hF hH => ?_)
      obtain ⟨hF, e9, e8⟩ := hF; subst e9; subst e8
      exact zm_iret X hH rfl rfl hF dX6_count_117
    · have hF := hF.2.2.2.2.2.2.2.2.1 hk
      refine lv_tableIn (tgt := 118) hx hb dX6_count_6 (by rw [hk]; decide) (by rw [hk]; decide) (by rw [hk]; rfl) (by decide) ?_
      refine lv_aload_n hx hb dX6_count_118 rfl (lv_at hl 0 rfl) ?_
      refine lv_iconst (v := 1) hx hb dX6_count_119 (by decide) ?_
      refine zm_calli (As := [.int 1]) (rest := []) X hH (wm_inState l D cI cZ ad o X.2.2.2.2.2.2.2.2 S1 M 1 _ hF) (cwV 1 X.2.2.2.2.1 (lw_V q2233 q2235 qs85 q95 q2236) rfl rfl rfl (by decide +kernel) ⟨Nat.le_of_ble_eq_true rfl, Nat.le_of_ble_eq_true rfl⟩) rfl hl.1 rfl (Nat.le_of_ble_eq_true rfl) dX6_count_120 (Nat.le_refl 0) (Nat.le_refl 0) (fun r10 S8 M9 H locs hF hH => ?_)
      obtain ⟨hF, e9, e8⟩ := hF; subst e9; subst e8
      exact zm_iret X hH rfl rfl hF dX6_count_123
    · have hF := hF.2.2.2.2.2.2.2.2.2.1 hk
      refine lv_tableIn (tgt := 124) hx hb dX6_count_6 (by rw [hk]; decide) (by rw [hk]; decide) (by rw [hk]; rfl) (by decide) ?_
      refine lv_aload_n hx hb dX6_count_124 rfl (lv_at hl 0 rfl) ?_
      refine lv_iconst (v := 2) hx hb dX6_count_125 (by decide) ?_
      refine zm_calli (As := [.int 2]) (rest := []) X hH (wm_inState l D cI cZ ad o X.2.2.2.2.2.2.2.2 S1 M 2 _ hF) (cwV 1 X.2.2.2.2.1 (lw_V q2233 q2235 qs85 q95 q2236) rfl rfl rfl (by decide +kernel) ⟨Nat.le_of_ble_eq_true rfl, Nat.le_of_ble_eq_true rfl⟩) rfl hl.1 rfl (Nat.le_of_ble_eq_true rfl) dX6_count_126 (Nat.le_refl 0) (Nat.le_refl 0) (fun r13 S11 M12 H locs hF hH => ?_)
      obtain ⟨hF, e9, e8⟩ := hF; subst e9; subst e8
      exact zm_iret X hH rfl rfl hF dX6_count_129
    · have hF := hF.2.2.2.2.2.2.2.2.2.2.1 hk
      refine lv_tableIn (tgt := 130) hx hb dX6_count_6 (by rw [hk]; decide) (by rw [hk]; decide) (by rw [hk]; rfl) (by decide) ?_
      refine lv_aload_n hx hb dX6_count_130 rfl (lv_at hl 0 rfl) ?_
      refine lv_iconst (v := 3) hx hb dX6_count_131 (by decide) ?_
      refine zm_calli (As := [.int 3]) (rest := []) X hH (wm_inState l D cI cZ ad o X.2.2.2.2.2.2.2.2 S1 M 3 _ hF) (cwV 1 X.2.2.2.2.1 (lw_V q2233 q2235 qs85 q95 q2236) rfl rfl rfl (by decide +kernel) ⟨Nat.le_of_ble_eq_true rfl, Nat.le_of_ble_eq_true rfl⟩) rfl hl.1 rfl (Nat.le_of_ble_eq_true rfl) dX6_count_132 (Nat.le_refl 0) (Nat.le_refl 0) (fun r16 S14 M15 H locs hF hH => ?_)
      obtain ⟨hF, e9, e8⟩ := hF; subst e9; subst e8
      exact zm_iret X hH rfl rfl hF dX6_count_135
    · have hF := hF.2.2.2.2.2.2.2.2.2.2.2.1 hk
      refine lv_tableIn (tgt := 136) hx hb dX6_count_6 (by rw [hk]; decide) (by rw [hk]; decide) (by rw [hk]; rfl) (by decide) ?_
      refine lv_aload_n hx hb dX6_count_136 rfl (lv_at hl 0 rfl) ?_
      refine lv_iconst (v := 4) hx hb dX6_count_137 (by decide) ?_
      refine zm_calli (As := [.int 4]) (rest := []) X hH (wm_inState l D cI cZ ad o X.2.2.2.2.2.2.2.2 S1 M 4 _ hF) (cwV 1 X.2.2.2.2.1 (lw_V q2233 q2235 qs85 q95 q2236) rfl rfl rfl (by decide +kernel) ⟨Nat.le_of_ble_eq_true rfl, Nat.le_of_ble_eq_true rfl⟩) rfl hl.1 rfl (Nat.le_of_ble_eq_true rfl) dX6_count_138 (Nat.le_refl 0) (Nat.le_refl 0) (fun r19 S17 M18 H locs hF hH => ?_)
      obtain ⟨hF, e9, e8⟩ := hF; subst e9; subst e8
      exact zm_iret X hH rfl rfl hF dX6_count_141
    · have hF := hF.2.2.2.2.2.2.2.2.2.2.2.2.1 hk
      refine lv_tableIn (tgt := 142) hx hb dX6_count_6 (by rw [hk]; decide) (by rw [hk]; decide) (by rw [hk]; rfl) (by decide) ?_
      refine lv_aload_n hx hb dX6_count_142 rfl (lv_at hl 0 rfl) ?_
      refine zm_getf X hH 47 (by decide) rfl q1760 dX6_count_143 ?_
      exact zm_iret X hH rfl rfl hF dX6_count_146
    · have hF := hF.2.2.2.2.2.2.2.2.2.2.2.2.2 hk
      refine lv_tableIn (tgt := 147) hx hb dX6_count_6 (by rw [hk]; decide) (by rw [hk]; decide) (by rw [hk]; rfl) (by decide) ?_
      refine lv_aload_n hx hb dX6_count_147 rfl (lv_at hl 0 rfl) ?_
      refine zm_getf X hH 49 (by decide) rfl q1762 dX6_count_148 ?_
      exact zm_iret X hH rfl rfl hF dX6_count_151
