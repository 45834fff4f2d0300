/-! THE MODEL SIDE: the walks, printed by gen_model.py -/
set_option maxRecDepth 100000
set_option maxHeartbeats 4000000 in
set_option maxRecDepth 100000 in
/-- numbersOf: what the bytecode asks is what its run needs -/
theorem wm_numbersOf (l : Launch) (D : va_G) (cI cZ : ClassId) (ad : Nat → Nat) (o : Nat) (hAd : zm_Ad ad o) (S : Nat → Int32) (M : Nat → Nat → Int32) (v1 : Int32) (Q : Int32 → Prop) (hF : fm_numbersOf S M v1 Q) :
    zm_Mi l yX6_numbersOf (ws_ yX6_numbersOf cX6_numbersOf 2 (some .int)) 0 D cI cZ ad o [.int v1] S M (fun r S1 M1 => Q r ∧ S = S1 ∧ M = M1) := by
  refine zm_ofi rfl hAd (Nat.le_of_ble_eq_true rfl) ?_
  intro p e s m args below meth c H locs ls X hH hl
  have hx := X.1
  have hb := X.2.1
  have hl : lv_has ls 2 [(0, .ref o), (1, .int v1)] := hl
  unfold fm_numbersOf at hF
  refine lv_iload_n hx hb dX6_numbersOf_0 rfl (lv_at hl 1 rfl) ?_
  by_cases hsw : v1.toInt < 2 ∨ 16 < v1.toInt
  · have hF := hF.1 hsw
    refine lv_tableOut (tgt := 84) hx hb dX6_numbersOf_1 hsw (by decide) ?_
    refine lv_iconst (v := 1) hx hb dX6_numbersOf_84 (by decide) ?_
    exact zm_iret X hH rfl rfl ⟨hF, rfl, rfl⟩ dX6_numbersOf_85
  · have hF := hF.2
    have hsw2 : v1.toInt = 2 ∨ v1.toInt = 3 ∨ v1.toInt = 4 ∨ v1.toInt = 5 ∨ v1.toInt = 6 ∨ v1.toInt = 7 ∨ v1.toInt = 8 ∨ v1.toInt = 9 ∨ v1.toInt = 10 ∨ v1.toInt = 11 ∨ v1.toInt = 12 ∨ v1.toInt = 13 ∨ v1.toInt = 14 ∨ v1.toInt = 15 ∨ v1.toInt = 16 := by omega
    rcases hsw2 with hk | hk | hk | hk | hk | hk | hk | hk | hk | hk | hk | hk | hk | hk | hk
    · have hF := hF.1 hk
      refine lv_tableIn (tgt := 76) hx hb dX6_numbersOf_1 (by rw [hk]; decide) (by rw [hk]; decide) (by rw [hk]; rfl) (by decide) ?_
      refine lv_iconst (v := 3) hx hb dX6_numbersOf_76 (by decide) ?_
      exact zm_iret X hH rfl rfl ⟨hF, rfl, rfl⟩ dX6_numbersOf_77
    · have hF := hF.2.1 hk
      refine lv_tableIn (tgt := 78) hx hb dX6_numbersOf_1 (by rw [hk]; decide) (by rw [hk]; decide) (by rw [hk]; rfl) (by decide) ?_
      refine lv_iconst (v := 2) hx hb dX6_numbersOf_78 (by decide) ?_
      exact zm_iret X hH rfl rfl ⟨hF, rfl, rfl⟩ dX6_numbersOf_79
    · have hF := hF.2.2.1 hk
      refine lv_tableIn (tgt := 80) hx hb dX6_numbersOf_1 (by rw [hk]; decide) (by rw [hk]; decide) (by rw [hk]; rfl) (by decide) ?_
      refine lv_iconst (v := 4) hx hb dX6_numbersOf_80 (by decide) ?_
      exact zm_iret X hH rfl rfl ⟨hF, rfl, rfl⟩ dX6_numbersOf_81
    · have hF := hF.2.2.2.1 hk
      refine lv_tableIn (tgt := 82) hx hb dX6_numbersOf_1 (by rw [hk]; decide) (by rw [hk]; decide) (by rw [hk]; rfl) (by decide) ?_
      refine lv_iconst (v := 5) hx hb dX6_numbersOf_82 (by decide) ?_
      exact zm_iret X hH rfl rfl ⟨hF, rfl, rfl⟩ dX6_numbersOf_83
    · have hF := hF.2.2.2.2.1 hk
      refine lv_tableIn (tgt := 84) hx hb dX6_numbersOf_1 (by rw [hk]; decide) (by rw [hk]; decide) (by rw [hk]; rfl) (by decide) ?_
      refine lv_iconst (v := 1) hx hb dX6_numbersOf_84 (by decide) ?_
      exact zm_iret X hH rfl rfl ⟨hF, rfl, rfl⟩ dX6_numbersOf_85
    · have hF := hF.2.2.2.2.2.1 hk
      refine lv_tableIn (tgt := 76) hx hb dX6_numbersOf_1 (by rw [hk]; decide) (by rw [hk]; decide) (by rw [hk]; rfl) (by decide) ?_
      refine lv_iconst (v := 3) hx hb dX6_numbersOf_76 (by decide) ?_
      exact zm_iret X hH rfl rfl ⟨hF, rfl, rfl⟩ dX6_numbersOf_77
    · have hF := hF.2.2.2.2.2.2.1 hk
      refine lv_tableIn (tgt := 78) hx hb dX6_numbersOf_1 (by rw [hk]; decide) (by rw [hk]; decide) (by rw [hk]; rfl) (by decide) ?_
      refine lv_iconst (v := 2) hx hb dX6_numbersOf_78 (by decide) ?_
      exact zm_iret X hH rfl rfl ⟨hF, rfl, rfl⟩ dX6_numbersOf_79
    · have hF := hF.2.2.2.2.2.2.2.1 hk
      refine lv_tableIn (tgt := 76) hx hb dX6_numbersOf_1 (by rw [hk]; decide) (by rw [hk]; decide) (by rw [hk]; rfl) (by decide) ?_
      refine lv_iconst (v := 3) hx hb dX6_numbersOf_76 (by decide) ?_
      exact zm_iret X hH rfl rfl ⟨hF, rfl, rfl⟩ dX6_numbersOf_77
    · have hF := hF.2.2.2.2.2.2.2.2.1 hk
      refine lv_tableIn (tgt := 78) hx hb dX6_numbersOf_1 (by rw [hk]; decide) (by rw [hk]; decide) (by rw [hk]; rfl) (by decide) ?_
      refine lv_iconst (v := 2) hx hb dX6_numbersOf_78 (by decide) ?_
      exact zm_iret X hH rfl rfl ⟨hF, rfl, rfl⟩ dX6_numbersOf_79
    · have hF := hF.2.2.2.2.2.2.2.2.2.1 hk
      refine lv_tableIn (tgt := 76) hx hb dX6_numbersOf_1 (by rw [hk]; decide) (by rw [hk]; decide) (by rw [hk]; rfl) (by decide) ?_
      refine lv_iconst (v := 3) hx hb dX6_numbersOf_76 (by decide) ?_
      exact zm_iret X hH rfl rfl ⟨hF, rfl, rfl⟩ dX6_numbersOf_77
    · have hF := hF.2.2.2.2.2.2.2.2.2.2.1 hk
      refine lv_tableIn (tgt := 84) hx hb dX6_numbersOf_1 (by rw [hk]; decide) (by rw [hk]; decide) (by rw [hk]; rfl) (by decide) ?_
      refine lv_iconst (v := 1) hx hb dX6_numbersOf_84 (by decide) ?_
      exact zm_iret X hH rfl rfl ⟨hF, rfl, rfl⟩ dX6_numbersOf_85
    · have hF := hF.2.2.2.2.2.2.2.2.2.2.2.1 hk
      refine lv_tableIn (tgt := 84) hx hb dX6_numbersOf_1 (by rw [hk]; decide) (by rw [hk]; decide) (by rw [hk]; rfl) (by decide) ?_
      refine lv_iconst (v := 1) hx hb dX6_numbersOf_84 (by decide) ?_
      exact zm_iret X hH rfl rfl ⟨hF, rfl, rfl⟩ dX6_numbersOf_85
    · have hF := hF.2.2.2.2.2.2.2.2.2.2.2.2.1 hk
      refine lv_tableIn (tgt := 84) hx hb dX6_numbersOf_1 (by rw [hk]; decide) (by rw [hk]; decide) (by rw [hk]; rfl) (by decide) ?_
      refine lv_iconst (v := 1) hx hb dX6_numbersOf_84 (by decide) ?_
      exact zm_iret X hH rfl rfl ⟨hF, rfl, rfl⟩ dX6_numbersOf_85
    · have hF := hF.2.2.2.2.2.2.2.2.2.2.2.2.2.1 hk
      refine lv_tableIn (tgt := 80) hx hb dX6_numbersOf_1 (by rw [hk]; decide) (by rw [hk]; decide) (by rw [hk]; rfl) (by decide) ?_
      refine lv_iconst (v := 4) hx hb dX6_numbersOf_80 (by decide) ?_
      exact zm_iret X hH rfl rfl ⟨hF, rfl, rfl⟩ dX6_numbersOf_81
    · have hF := hF.2.2.2.2.2.2.2.2.2.2.2.2.2.2 hk
      refine lv_tableIn (tgt := 80) hx hb dX6_numbersOf_1 (by rw [hk]; decide) (by rw [hk]; decide) (by rw [hk]; rfl) (by decide) ?_
      refine lv_iconst (v := 4) hx hb dX6_numbersOf_80 (by decide) ?_
      exact zm_iret X hH rfl rfl ⟨hF, rfl, rfl⟩ dX6_numbersOf_81
set_option maxHeartbeats 4000000 in
set_option maxRecDepth 100000 in
theorem wm_tries_48 {p : Program} {l : Launch} {e : Env} {s : State} {m : MethodId} {args : Array Value} {below : List Frame} {meth : Method} {c : Code} {D : va_G} {cI cZ : ClassId} {ad : Nat → Nat} {o : Nat} {Q : Int32 → (Nat → Int32) → (Nat → Nat → Int32) → Prop} {K6 : (Nat → Int32) → (Nat → Nat → Int32) → Int32 → Prop} (X : zm_Cx p s m args meth c cX6_tries 5 (some .int) D cI cZ ad o) (hK6 : ∀ (S : Nat → Int32) (M : Nat → Nat → Int32) (v1 : Int32), K6 S M v1 → ∀ (H : Heap) (locs : List Loc) (ls : Array Slot), lv_has ls 5 [(0, .ref o), (1, .int v1)] → zm_H D cI cZ ad o S M s H locs → W p l e (zm_R 6) s m args below meth c H locs 0 0 (MQ below (zm_QS Q D cI cZ ad o) args s 0 0 (zm_A ad o)) (F0 m 6 ls [])) :
    ∀ (n : Nat) (S : Nat → Int32) (M : Nat → Nat → Int32) (v1 : Int32) (v2 : Int32) (v3 : Int32) (v4 : Int32), fm_tries_48 Q K6 n S M v1 v2 v3 v4 → ∀ (H : Heap) (locs : List Loc) (ls : Array Slot), lv_has ls 5 [(0, .ref o), (1, .int v1), (2, .int v2), (3, .int v3), (4, .int v4)] → zm_H D cI cZ ad o S M s H locs → W p l e (zm_R 6) s m args below meth c H locs 0 0 (MQ below (zm_QS Q D cI cZ ad o) args s 0 0 (zm_A ad o)) (F0 m 48 ls []) := by
  have hx := X.1
  have hb := X.2.1
  intro n
  induction n with
  | zero =>
    intro S M v1 v2 v3 v4 hF
    exact False.elim hF
  | succ n ih =>
    intro S M v1 v2 v3 v4 hF
    intro H locs ls hl hH
    unfold fm_tries_48 at hF
    refine lv_iload hx hb dX6_tries_48 (lv_at hl 4 rfl) ?_
    refine lv_bipush (v := 6) hx hb dX6_tries_50 (by decide) ?_
    refine lv_icmp_ge (tgt := 75) hx hb dX6_tries_52 (by decide) (fun cd => ?_) (fun cd => ?_)
    · have hF := hF.1 cd
      refine lv_aload_n hx hb dX6_tries_75 rfl (lv_at hl 0 rfl) ?_
      refine lv_iload_n hx hb dX6_tries_76 rfl (lv_at hl 3 rfl) ?_
      refine lv_aload_n hx hb dX6_tries_77 rfl (lv_at hl 0 rfl) ?_
      refine zm_getf X hH 48 (by decide) rfl q1761 dX6_tries_78 ?_
      refine lv_iload_n hx hb dX6_tries_81 rfl (lv_at hl 2 rfl) ?_
      refine lv_iconst (v := 1) hx hb dX6_tries_82 (by decide) ?_
      refine lv_iadd hx hb dX6_tries_83 ?_
      obtain ⟨hI, hF⟩ := hF
      refine zm_iald X hH 48 (by decide) rfl (n := 2400) rfl hI dX6_tries_84 ?_
      refine lv_aload_n hx hb dX6_tries_85 rfl (lv_at hl 0 rfl) ?_
      refine zm_getf X hH 48 (by decide) rfl q1761 dX6_tries_86 ?_
      refine lv_iload_n hx hb dX6_tries_89 rfl (lv_at hl 2 rfl) ?_
      refine lv_iconst (v := 2) hx hb dX6_tries_90 (by decide) ?_
      refine lv_iadd hx hb dX6_tries_91 ?_
      obtain ⟨hI, hF⟩ := hF
      refine zm_iald X hH 48 (by decide) rfl (n := 2400) rfl hI dX6_tries_92 ?_
      refine lv_aload_n hx hb dX6_tries_93 rfl (lv_at hl 0 rfl) ?_
      refine zm_getf X hH 48 (by decide) rfl q1761 dX6_tries_94 ?_
      refine lv_iload_n hx hb dX6_tries_97 rfl (lv_at hl 2 rfl) ?_
      refine lv_iconst (v := 3) hx hb dX6_tries_98 (by decide) ?_
      refine lv_iadd hx hb dX6_tries_99 ?_
      obtain ⟨hI, hF⟩ := hF
      refine zm_iald X hH 48 (by decide) rfl (n := 2400) rfl hI dX6_tries_100 ?_
      refine lv_aload_n hx hb dX6_tries_101 rfl (lv_at hl 0 rfl) ?_
      refine zm_getf X hH 48 (by decide) rfl q1761 dX6_tries_102 ?_
      refine lv_iload_n hx hb dX6_tries_105 rfl (lv_at hl 2 rfl) ?_
      refine lv_iconst (v := 4) hx hb dX6_tries_106 (by decide) ?_
      refine lv_iadd hx hb dX6_tries_107 ?_
      obtain ⟨hI, hF⟩ := hF
      refine zm_iald X hH 48 (by decide) rfl (n := 2400) rfl hI dX6_tries_108 ?_
      refine lv_aload_n hx hb dX6_tries_109 rfl (lv_at hl 0 rfl) ?_
      refine zm_getf X hH 48 (by decide) rfl q1761 dX6_tries_110 ?_
      refine lv_iload_n hx hb dX6_tries_113 rfl (lv_at hl 2 rfl) ?_
      refine lv_iconst (v := 5) hx hb dX6_tries_114 (by decide) ?_
      refine lv_iadd hx hb dX6_tries_115 ?_
      obtain ⟨hI, hF⟩ := hF
      refine zm_iald X hH 48 (by decide) rfl (n := 2400) rfl hI dX6_tries_116 ?_
      refine zm_calli (As := [.int v3, .int (M 48 (v2 + 1).toNatClampNeg), .int (M 48 (v2 + 2).toNatClampNeg), .int (M 48 (v2 + 3).toNatClampNeg), .int (M 48 (v2 + 4).toNatClampNeg), .int (M 48 (v2 + 5).toNatClampNeg)]) (rest := []) X hH (wm_does l D cI cZ ad o X.2.2.2.2.2.2.2.2 S M v3 (M 48 (v2 + 1).toNatClampNeg) (M 48 (v2 + 2).toNatClampNeg) (M 48 (v2 + 3).toNatClampNeg) (M 48 (v2 + 4).toNatClampNeg) (M 48 (v2 + 5).toNatClampNeg) _ hF) (cwV 6 X.2.2.2.2.1 (lw_V q1876 q1878 qs29 q95 q1879) rfl rfl rfl (by decide +kernel) ⟨Nat.le_of_ble_eq_true rfl, Nat.le_of_ble_eq_true rfl⟩) rfl hl.1 rfl (Nat.le_of_ble_eq_true rfl) dX6_tries_117 (Nat.le_refl 0) (Nat.le_refl 0) (fun r3 S1 M2 H locs hF hH => ?_)
      refine lv_if_ge (tgt := 125) hx hb dX6_tries_120 (by decide) (fun cd => ?_) (fun cd => ?_)
      · have hF := hF.1 cd
        obtain ⟨x4, ex4⟩ : ∃ z : Int32, z = v1 + 1 := ⟨_, rfl⟩
        have hF := hF x4 ex4
        refine lv_iinc (v := x4) (lv' := [(1, .int x4), (0, .ref o), (2, .int v2), (3, .int v3), (4, .int v4)]) hx hb dX6_tries_125 hl (k := 1) rfl (by rw [ex4]; rfl) (by decide) rfl (fun ls hl => ?_)
        refine lv_goto (tgt := 6) hx hb dX6_tries_128 (by decide) ?_
        exact hK6 S1 M2 x4 hF _ _ _ (lv_sub hl [1, 0] rfl) hH
      · have hF := hF.2 cd
        refine lv_iload_n hx hb dX6_tries_123 rfl (lv_at hl 1 rfl) ?_
        exact zm_iret X hH rfl rfl hF dX6_tries_124
    · have hF := hF.2 cd
      refine lv_aload_n hx hb dX6_tries_55 rfl (lv_at hl 0 rfl) ?_
      refine zm_getf X hH 48 (by decide) rfl q1761 dX6_tries_56 ?_
      refine lv_iload_n hx hb dX6_tries_59 rfl (lv_at hl 2 rfl) ?_
      refine lv_iload hx hb dX6_tries_60 (lv_at hl 4 rfl) ?_
      refine lv_iadd hx hb dX6_tries_62 ?_
      obtain ⟨hI, hF⟩ := hF
      refine zm_iald X hH 48 (by decide) rfl (n := 2400) rfl hI dX6_tries_63 ?_
      refine lv_if_eq (tgt := 69) hx hb dX6_tries_64 (by decide) (fun cd => ?_) (fun cd => ?_)
      · have hF := hF.1 cd
        obtain ⟨x5, ex5⟩ : ∃ z : Int32, z = v4 + 1 := ⟨_, rfl⟩
        have hF := hF x5 ex5
        refine lv_iinc (v := x5) (lv' := [(4, .int x5), (0, .ref o), (1, .int v1), (2, .int v2), (3, .int v3)]) hx hb dX6_tries_69 hl (k := 4) rfl (by rw [ex5]; rfl) (by decide) rfl (fun ls hl => ?_)
        refine lv_goto (tgt := 48) hx hb dX6_tries_72 (by decide) ?_
        exact ih S M v1 v2 v3 x5 hF _ _ _ (lv_sub hl [1, 2, 3, 4, 0] rfl) hH
      · have hF := hF.2 cd
        refine lv_iload_n hx hb dX6_tries_67 rfl (lv_at hl 1 rfl) ?_
        exact zm_iret X hH rfl rfl hF dX6_tries_68
set_option maxHeartbeats 4000000 in
set_option maxRecDepth 100000 in
theorem wm_tries_6 {p : Program} {l : Launch} {e : Env} {s : State} {m : MethodId} {args : Array Value} {below : List Frame} {meth : Method} {c : Code} {D : va_G} {cI cZ : ClassId} {ad : Nat → Nat} {o : Nat} {Q : Int32 → (Nat → Int32) → (Nat → Nat → Int32) → Prop} (X : zm_Cx p s m args meth c cX6_tries 5 (some .int) D cI cZ ad o) :
    ∀ (n : Nat) (S : Nat → Int32) (M : Nat → Nat → Int32) (v1 : Int32), fm_tries_6 Q n S M v1 → ∀ (H : Heap) (locs : List Loc) (ls : Array Slot), lv_has ls 5 [(0, .ref o), (1, .int v1)] → zm_H D cI cZ ad o S M s H locs → W p l e (zm_R 6) s m args below meth c H locs 0 0 (MQ below (zm_QS Q D cI cZ ad o) args s 0 0 (zm_A ad o)) (F0 m 6 ls []) := by
  have hx := X.1
  have hb := X.2.1
  intro n
  induction n with
  | zero =>
    intro S M v1 hF
    exact False.elim hF
  | succ n ih =>
    intro S M v1 hF
    intro H locs ls hl hH
    unfold fm_tries_6 at hF
    refine lv_iload_n hx hb dX6_tries_6 rfl (lv_at hl 1 rfl) ?_
    refine lv_aload_n hx hb dX6_tries_7 rfl (lv_at hl 0 rfl) ?_
    refine zm_getf X hH 47 (by decide) rfl q1760 dX6_tries_8 ?_
    refine lv_icmp_ge (tgt := 131) hx hb dX6_tries_11 (by decide) (fun cd => ?_) (fun cd => ?_)
    · have hF := hF.1 cd
      refine lv_iconst (v := (-1)) hx hb dX6_tries_131 (by decide) ?_
      exact zm_iret X hH rfl rfl hF dX6_tries_132
    · have hF := hF.2 cd
      refine lv_bipush (v := 6) hx hb dX6_tries_14 (by decide) ?_
      refine lv_iload_n hx hb dX6_tries_16 rfl (lv_at hl 1 rfl) ?_
      refine lv_imul hx hb dX6_tries_17 ?_
      refine lv_topi (fun x1 ex1 => ?_)
      have hF := hF x1 ex1
      refine lv_istore_n (lv' := [(2, .int x1), (0, .ref o), (1, .int v1)]) hx hb dX6_tries_18 rfl hl (by decide) rfl (fun ls hl => ?_)
      refine lv_aload_n hx hb dX6_tries_19 rfl (lv_at hl 1 rfl) ?_
      refine zm_getf X hH 48 (by decide) rfl q1761 dX6_tries_20 ?_
      refine lv_iload_n hx hb dX6_tries_23 rfl (lv_at hl 0 rfl) ?_
      obtain ⟨hI, hF⟩ := hF
      refine zm_iald X hH 48 (by decide) rfl (n := 2400) rfl hI dX6_tries_24 ?_
      refine lv_topi (fun x2 ex2 => ?_)
      have hF := hF x2 ex2
      refine lv_istore_n (lv' := [(3, .int x2), (2, .int x1), (0, .ref o), (1, .int v1)]) hx hb dX6_tries_25 rfl hl (by decide) rfl (fun ls hl => ?_)
      refine lv_iload_n hx hb dX6_tries_26 rfl (lv_at hl 0 rfl) ?_
      refine lv_iconst (v := 1) hx hb dX6_tries_27 (by decide) ?_
      refine lv_icmp_lt (tgt := 37) hx hb dX6_tries_28 (by decide) (fun cd => ?_) (fun cd => ?_)
      · have hF := hF.1 cd
        refine lv_iload_n hx hb dX6_tries_37 rfl (lv_at hl 3 rfl) ?_
        exact zm_iret X hH rfl rfl hF dX6_tries_38
      · have hF := hF.2 cd
        refine lv_iload_n hx hb dX6_tries_31 rfl (lv_at hl 0 rfl) ?_
        refine lv_bipush (v := 18) hx hb dX6_tries_32 (by decide) ?_
        refine lv_icmp_le (tgt := 39) hx hb dX6_tries_34 (by decide) (fun cd => ?_) (fun cd => ?_)
        · have hF := hF.1 cd
          refine lv_aload_n hx hb dX6_tries_39 rfl (lv_at hl 2 rfl) ?_
          refine lv_iload_n hx hb dX6_tries_40 rfl (lv_at hl 0 rfl) ?_
          refine zm_calli (As := [.int x2]) (rest := []) X hH (wm_numbersOf l D cI cZ ad o X.2.2.2.2.2.2.2.2 S M x2 _ hF) (cwV 1 X.2.2.2.2.1 (lw_V q2209 q2211 qs82 q95 q2212) rfl rfl rfl (by decide +kernel) ⟨Nat.le_of_ble_eq_true rfl, Nat.le_of_ble_eq_true rfl⟩) rfl hl.1 rfl (Nat.le_of_ble_eq_true rfl) dX6_tries_41 (Nat.le_refl 0) (Nat.le_refl 0) (fun r5 S3 M4 H locs hF hH => ?_)
          obtain ⟨hF, e9, e8⟩ := hF; subst e9; subst e8
          refine lv_iconst (v := 1) hx hb dX6_tries_44 (by decide) ?_
          refine lv_iadd hx hb dX6_tries_45 ?_
          refine lv_topi (fun x6 ex6 => ?_)
          have hF := hF x6 ex6
          refine lv_istore (lv' := [(4, .int x6), (3, .int x2), (2, .int x1), (0, .ref o), (1, .int v1)]) hx hb dX6_tries_46 hl (by decide) rfl (fun ls hl => ?_)
          obtain ⟨n9, hF⟩ := hF
          exact wm_tries_48 X ih n9 S M v1 x1 x2 x6 hF _ _ _ (lv_sub hl [3, 4, 2, 1, 0] rfl) hH
        · have hF := hF.2 cd
          refine lv_iload_n hx hb dX6_tries_37 rfl (lv_at hl 3 rfl) ?_
          exact zm_iret X hH rfl rfl hF dX6_tries_38
set_option maxHeartbeats 4000000 in
set_option maxRecDepth 100000 in
/-- tries: what the bytecode asks is what its run needs -/
theorem wm_tries (l : Launch) (D : va_G) (cI cZ : ClassId) (ad : Nat → Nat) (o : Nat) (hAd : zm_Ad ad o) (S : Nat → Int32) (M : Nat → Nat → Int32) (Q : Int32 → (Nat → Int32) → (Nat → Nat → Int32) → Prop) (hF : fm_tries S M Q) :
    zm_Mi l yX6_tries (ws_ yX6_tries cX6_tries 5 (some .int)) 6 D cI cZ ad o [] S M Q := by
  refine zm_ofi rfl hAd (Nat.le_of_ble_eq_true rfl) ?_
  intro p e s m args below meth c H locs ls X hH hl
  have hx := X.1
  have hb := X.2.1
  have hl : lv_has ls 5 [(0, .ref o)] := hl
  unfold fm_tries at hF
  refine lv_aload_n hx hb dX6_tries_0 rfl (lv_at hl 0 rfl) ?_
  refine zm_callv (As := []) (rest := []) X hH (wm_empty l D cI cZ ad o X.2.2.2.2.2.2.2.2 S M _ hF) (cwV 0 X.2.2.2.2.1 (lw_V q2205 q2207 qs81 q95 q2208) rfl rfl rfl (by decide +kernel) ⟨Nat.le_of_ble_eq_true rfl, Nat.le_of_ble_eq_true rfl⟩) rfl hl.1 rfl (Nat.le_of_ble_eq_true rfl) dX6_tries_1 (Nat.le_refl 0) (Nat.le_refl 0) (fun S1 M2 H locs hF hH => ?_)
  refine lv_iconst (v := 0) hx hb dX6_tries_4 (by decide) ?_
  refine lv_istore_n (lv' := [(1, .int 0), (0, .ref o)]) hx hb dX6_tries_5 rfl hl (by decide) rfl (fun ls hl => ?_)
  obtain ⟨n9, hF⟩ := hF
  exact wm_tries_6 X n9 S1 M2 0 hF _ _ _ (lv_sub hl [1, 0] rfl) hH
set_option maxHeartbeats 4000000 in
set_option maxRecDepth 100000 in
theorem wm_again_6 {p : Program} {l : Launch} {e : Env} {s : State} {m : MethodId} {args : Array Value} {below : List Frame} {meth : Method} {c : Code} {D : va_G} {cI cZ : ClassId} {ad : Nat → Nat} {o : Nat} {Q : (Nat → Int32) → (Nat → Nat → Int32) → Prop} (X : zm_Cx p s m args meth c cX6_again 3 none D cI cZ ad o) :
    ∀ (n : Nat) (S : Nat → Int32) (M : Nat → Nat → Int32) (v1 : Int32), fm_again_6 Q n S M v1 → ∀ (H : Heap) (locs : List Loc) (ls : Array Slot), lv_has ls 3 [(0, .ref o), (1, .int v1)] → zm_H D cI cZ ad o S M s H locs → W p l e (zm_R 6) s m args below meth c H locs 0 0 (MQ below (zm_QV Q D cI cZ ad o) args s 0 0 (zm_A ad o)) (F0 m 6 ls []) := by
  have hx := X.1
  have hb := X.2.1
  intro n
  induction n with
  | zero =>
    intro S M v1 hF
    exact False.elim hF
  | succ n ih =>
    intro S M v1 hF
    intro H locs ls hl hH
    unfold fm_again_6 at hF
    refine lv_iload_n hx hb dX6_again_6 rfl (lv_at hl 1 rfl) ?_
    refine lv_aload_n hx hb dX6_again_7 rfl (lv_at hl 0 rfl) ?_
    refine zm_getf X hH 45 (by decide) rfl q1758 dX6_again_8 ?_
    refine lv_icmp_ge (tgt := 76) hx hb dX6_again_11 (by decide) (fun cd => ?_) (fun cd => ?_)
    · have hF := hF.1 cd
      exact zm_vret X hH hF dX6_again_76
    · have hF := hF.2 cd
      refine lv_bipush (v := 6) hx hb dX6_again_14 (by decide) ?_
      refine lv_iload_n hx hb dX6_again_16 rfl (lv_at hl 1 rfl) ?_
      refine lv_imul hx hb dX6_again_17 ?_
      refine lv_topi (fun x1 ex1 => ?_)
      have hF := hF x1 ex1
      refine lv_istore_n (lv' := [(2, .int x1), (0, .ref o), (1, .int v1)]) hx hb dX6_again_18 rfl hl (by decide) rfl (fun ls hl => ?_)
      refine lv_aload_n hx hb dX6_again_19 rfl (lv_at hl 1 rfl) ?_
      refine lv_aload_n hx hb dX6_again_20 rfl (lv_at hl 1 rfl) ?_
      refine zm_getf X hH 46 (by decide) rfl q1759 dX6_again_21 ?_
      refine lv_iload_n hx hb dX6_again_24 rfl (lv_at hl 0 rfl) ?_
      obtain ⟨hI, hF⟩ := hF
      refine zm_iald X hH 46 (by decide) rfl (n := 2400) rfl hI dX6_again_25 ?_
      refine lv_aload_n hx hb dX6_again_26 rfl (lv_at hl 1 rfl) ?_
      refine zm_getf X hH 46 (by decide) rfl q1759 dX6_again_27 ?_
      refine lv_iload_n hx hb dX6_again_30 rfl (lv_at hl 0 rfl) ?_
      refine lv_iconst (v := 1) hx hb dX6_again_31 (by decide) ?_
      refine lv_iadd hx hb dX6_again_32 ?_
      obtain ⟨hI, hF⟩ := hF
      refine zm_iald X hH 46 (by decide) rfl (n := 2400) rfl hI dX6_again_33 ?_
      refine lv_aload_n hx hb dX6_again_34 rfl (lv_at hl 1 rfl) ?_
      refine zm_getf X hH 46 (by decide) rfl q1759 dX6_again_35 ?_
      refine lv_iload_n hx hb dX6_again_38 rfl (lv_at hl 0 rfl) ?_
      refine lv_iconst (v := 2) hx hb dX6_again_39 (by decide) ?_
      refine lv_iadd hx hb dX6_again_40 ?_
      obtain ⟨hI, hF⟩ := hF
      refine zm_iald X hH 46 (by decide) rfl (n := 2400) rfl hI dX6_again_41 ?_
      refine lv_aload_n hx hb dX6_again_42 rfl (lv_at hl 1 rfl) ?_
      refine zm_getf X hH 46 (by decide) rfl q1759 dX6_again_43 ?_
      refine lv_iload_n hx hb dX6_again_46 rfl (lv_at hl 0 rfl) ?_
      refine lv_iconst (v := 3) hx hb dX6_again_47 (by decide) ?_
      refine lv_iadd hx hb dX6_again_48 ?_
      obtain ⟨hI, hF⟩ := hF
      refine zm_iald X hH 46 (by decide) rfl (n := 2400) rfl hI dX6_again_49 ?_
      refine lv_aload_n hx hb dX6_again_50 rfl (lv_at hl 1 rfl) ?_
      refine zm_getf X hH 46 (by decide) rfl q1759 dX6_again_51 ?_
      refine lv_iload_n hx hb dX6_again_54 rfl (lv_at hl 0 rfl) ?_
      refine lv_iconst (v := 4) hx hb dX6_again_55 (by decide) ?_
      refine lv_iadd hx hb dX6_again_56 ?_
      obtain ⟨hI, hF⟩ := hF
      refine zm_iald X hH 46 (by decide) rfl (n := 2400) rfl hI dX6_again_57 ?_
      refine lv_aload_n hx hb dX6_again_58 rfl (lv_at hl 1 rfl) ?_
      refine zm_getf X hH 46 (by decide) rfl q1759 dX6_again_59 ?_
      refine lv_iload_n hx hb dX6_again_62 rfl (lv_at hl 0 rfl) ?_
      refine lv_iconst (v := 5) hx hb dX6_again_63 (by decide) ?_
      refine lv_iadd hx hb dX6_again_64 ?_
      obtain ⟨hI, hF⟩ := hF
      refine zm_iald X hH 46 (by decide) rfl (n := 2400) rfl hI dX6_again_65 ?_
      refine zm_calli (As := [.int (M 46 x1.toNatClampNeg), .int (M 46 (x1 + 1).toNatClampNeg), .int (M 46 (x1 + 2).toNatClampNeg), .int (M 46 (x1 + 3).toNatClampNeg), .int (M 46 (x1 + 4).toNatClampNeg), .int (M 46 (x1 + 5).toNatClampNeg)]) (rest := []) X hH (wm_does l D cI cZ ad o X.2.2.2.2.2.2.2.2 S M (M 46 x1.toNatClampNeg) (M 46 (x1 + 1).toNatClampNeg) (M 46 (x1 + 2).toNatClampNeg) (M 46 (x1 + 3).toNatClampNeg) (M 46 (x1 + 4).toNatClampNeg) (M 46 (x1 + 5).toNatClampNeg) _ hF) (cwV 6 X.2.2.2.2.1 (lw_V q1876 q1878 qs29 q95 q1879) rfl rfl rfl (by decide +kernel) ⟨Nat.le_of_ble_eq_true rfl, Nat.le_of_ble_eq_true rfl⟩) rfl hl.1 rfl (Nat.le_of_ble_eq_true rfl) dX6_again_66 (Nat.le_refl 0) (Nat.le_refl 0) (fun r4 S2 M3 H locs hF hH => ?_)
      refine lv_pop hx hb dX6_again_69 rfl ?_
      obtain ⟨x5, ex5⟩ : ∃ z : Int32, z = v1 + 1 := ⟨_, rfl⟩
      have hF := hF x5 ex5
      refine lv_iinc (v := x5) (lv' := [(1, .int x5), (2, .int x1), (0, .ref o)]) hx hb dX6_again_70 hl (k := 2) rfl (by rw [ex5]; rfl) (by decide) rfl (fun ls hl => ?_)
      refine lv_goto (tgt := 6) hx hb dX6_again_73 (by decide) ?_
      exact ih S2 M3 x5 hF _ _ _ (lv_sub hl [2, 0] rfl) hH
set_option maxHeartbeats 4000000 in
set_option maxRecDepth 100000 in
/-- again: what the bytecode asks is what its run needs -/
theorem wm_again (l : Launch) (D : va_G) (cI cZ : ClassId) (ad : Nat → Nat) (o : Nat) (hAd : zm_Ad ad o) (S : Nat → Int32) (M : Nat → Nat → Int32) (Q : (Nat → Int32) → (Nat → Nat → Int32) → Prop) (hF : fm_again S M Q) :
    zm_Mv l yX6_again (ws_ yX6_again cX6_again 3 none) 6 D cI cZ ad o [] S M Q := by
  refine zm_ofv rfl hAd (Nat.le_of_ble_eq_true rfl) ?_
  intro p e s m args below meth c H locs ls X hH hl
  have hx := X.1
  have hb := X.2.1
  have hl : lv_has ls 3 [(0, .ref o)] := hl
  unfold fm_again at hF
  refine lv_aload_n hx hb dX6_again_0 rfl (lv_at hl 0 rfl) ?_
  refine zm_callv (As := []) (rest := []) X hH (wm_empty l D cI cZ ad o X.2.2.2.2.2.2.2.2 S M _ hF) (cwV 0 X.2.2.2.2.1 (lw_V q2205 q2207 qs81 q95 q2208) rfl rfl rfl (by decide +kernel) ⟨Nat.le_of_ble_eq_true rfl, Nat.le_of_ble_eq_true rfl⟩) rfl hl.1 rfl (Nat.le_of_ble_eq_true rfl) dX6_again_1 (Nat.le_refl 0) (Nat.le_refl 0) (fun S1 M2 H locs hF hH => ?_)
  refine lv_iconst (v := 0) hx hb dX6_again_4 (by decide) ?_
  refine lv_istore_n (lv' := [(1, .int 0), (0, .ref o)]) hx hb dX6_again_5 rfl hl (by decide) rfl (fun ls hl => ?_)
  obtain ⟨n9, hF⟩ := hF
  exact wm_again_6 X n9 S1 M2 0 hF _ _ _ (lv_sub hl [1, 0] rfl) hH
set_option maxHeartbeats 4000000 in
set_option maxRecDepth 100000 in
/-- field: what the bytecode asks is what its run needs -/
theorem wm_field (l : Launch) (D : va_G) (cI cZ : ClassId) (ad : Nat → Nat) (o : Nat) (hAd : zm_Ad ad o) (S : Nat → Int32) (M : Nat → Nat → Int32) (v1 : Int32) (Q : Int32 → (Nat → Int32) → (Nat → Nat → Int32) → Prop) (hF : fm_field S M v1 Q) :
    zm_Mi l yX6_field (ws_ yX6_field cX6_field 2 (some .int)) 7 D cI cZ ad o [.int v1] S M Q := by
  refine zm_ofi rfl hAd (Nat.le_of_ble_eq_true rfl) ?_
  intro p e s m args below meth c H locs ls X hH hl
  have hx := X.1
  have hb := X.2.1
  have hl : lv_has ls 2 [(0, .ref o), (1, .int v1)] := hl
  unfold fm_field at hF
  refine lv_aload_n hx hb dX6_field_0 rfl (lv_at hl 0 rfl) ?_
  refine lv_iconst (v := 1) hx hb dX6_field_1 (by decide) ?_
  refine lv_iload_n hx hb dX6_field_2 rfl (lv_at hl 1 rfl) ?_
  refine lv_iconst (v := 0) hx hb dX6_field_3 (by decide) ?_
  refine lv_iconst (v := 0) hx hb dX6_field_4 (by decide) ?_
  refine lv_iconst (v := 0) hx hb dX6_field_5 (by decide) ?_
  refine lv_iconst (v := 0) hx hb dX6_field_6 (by decide) ?_
  refine zm_calli (As := [.int 1, .int v1, .int 0, .int 0, .int 0, .int 0]) (rest := []) X hH (wm_call l D cI cZ ad o X.2.2.2.2.2.2.2.2 S M 1 v1 0 0 0 0 _ hF) (cwV 6 X.2.2.2.2.1 (lw_V q1872 q1874 qs28 q95 q1875) rfl rfl rfl (by decide +kernel) ⟨Nat.le_of_ble_eq_true rfl, Nat.le_of_ble_eq_true rfl⟩) rfl hl.1 rfl (Nat.le_of_ble_eq_true rfl) dX6_field_7 (Nat.le_refl 0) (Nat.le_refl 0) (fun r3 S1 M2 H locs hF hH => ?_)
  exact zm_iret X hH rfl rfl hF dX6_field_10
set_option maxHeartbeats 4000000 in
set_option maxRecDepth 100000 in
/-- row: what the bytecode asks is what its run needs -/
theorem wm_row (l : Launch) (D : va_G) (cI cZ : ClassId) (ad : Nat → Nat) (o : Nat) (hAd : zm_Ad ad o) (S : Nat → Int32) (M : Nat → Nat → Int32) (v1 : Int32) (v2 : Int32) (v3 : Int32) (Q : Int32 → (Nat → Int32) → (Nat → Nat → Int32) → Prop) (hF : fm_row S M v1 v2 v3 Q) :
    zm_Mi l yX6_row (ws_ yX6_row cX6_row 4 (some .int)) 7 D cI cZ ad o [.int v1, .int v2, .int v3] S M Q := by
  refine zm_ofi rfl hAd (Nat.le_of_ble_eq_true rfl) ?_
  intro p e s m args below meth c H locs ls X hH hl
  have hx := X.1
  have hb := X.2.1
  have hl : lv_has ls 4 [(0, .ref o), (1, .int v1), (2, .int v2), (3, .int v3)] := hl
  unfold fm_row at hF
  refine lv_aload_n hx hb dX6_row_0 rfl (lv_at hl 0 rfl) ?_
  refine lv_iconst (v := 2) hx hb dX6_row_1 (by decide) ?_
  refine lv_iload_n hx hb dX6_row_2 rfl (lv_at hl 1 rfl) ?_
  refine lv_iload_n hx hb dX6_row_3 rfl (lv_at hl 2 rfl) ?_
  refine lv_iload_n hx hb dX6_row_4 rfl (lv_at hl 3 rfl) ?_
  refine lv_iconst (v := 0) hx hb dX6_row_5 (by decide) ?_
  refine lv_iconst (v := 0) hx hb dX6_row_6 (by decide) ?_
  refine zm_calli (As := [.int 2, .int v1, .int v2, .int v3, .int 0, .int 0]) (rest := []) X hH (wm_call l D cI cZ ad o X.2.2.2.2.2.2.2.2 S M 2 v1 v2 v3 0 0 _ hF) (cwV 6 X.2.2.2.2.1 (lw_V q1872 q1874 qs28 q95 q1875) rfl rfl rfl (by decide +kernel) ⟨Nat.le_of_ble_eq_true rfl, Nat.le_of_ble_eq_true rfl⟩) rfl hl.1 rfl (Nat.le_of_ble_eq_true rfl) dX6_row_7 (Nat.le_refl 0) (Nat.le_refl 0) (fun r3 S1 M2 H locs hF hH => ?_)
  exact zm_iret X hH rfl rfl hF dX6_row_10
set_option maxHeartbeats 4000000 in
set_option maxRecDepth 100000 in
/-- tear: what the bytecode asks is what its run needs -/
theorem wm_tear (l : Launch) (D : va_G) (cI cZ : ClassId) (ad : Nat → Nat) (o : Nat) (hAd : zm_Ad ad o) (S : Nat → Int32) (M : Nat → Nat → Int32) (v1 : Int32) (v2 : Int32) (Q : Int32 → (Nat → Int32) → (Nat → Nat → Int32) → Prop) (hF : fm_tear S M v1 v2 Q) :
    zm_Mi l yX6_tear (ws_ yX6_tear cX6_tear 3 (some .int)) 7 D cI cZ ad o [.int v1, .int v2] S M Q := by
  refine zm_ofi rfl hAd (Nat.le_of_ble_eq_true rfl) ?_
  intro p e s m args below meth c H locs ls X hH hl
  have hx := X.1
  have hb := X.2.1
  have hl : lv_has ls 3 [(0, .ref o), (1, .int v1), (2, .int v2)] := hl
  unfold fm_tear at hF
  refine lv_aload_n hx hb dX6_tear_0 rfl (lv_at hl 0 rfl) ?_
  refine lv_iconst (v := 3) hx hb dX6_tear_1 (by decide) ?_
  refine lv_iload_n hx hb dX6_tear_2 rfl (lv_at hl 1 rfl) ?_
  refine lv_iload_n hx hb dX6_tear_3 rfl (lv_at hl 2 rfl) ?_
  refine lv_iconst (v := 0) hx hb dX6_tear_4 (by decide) ?_
  refine lv_iconst (v := 0) hx hb dX6_tear_5 (by decide) ?_
  refine lv_iconst (v := 0) hx hb dX6_tear_6 (by decide) ?_
  refine zm_calli (As := [.int 3, .int v1, .int v2, .int 0, .int 0, .int 0]) (rest := []) X hH (wm_call l D cI cZ ad o X.2.2.2.2.2.2.2.2 S M 3 v1 v2 0 0 0 _ hF) (cwV 6 X.2.2.2.2.1 (lw_V q1872 q1874 qs28 q95 q1875) rfl rfl rfl (by decide +kernel) ⟨Nat.le_of_ble_eq_true rfl, Nat.le_of_ble_eq_true rfl⟩) rfl hl.1 rfl (Nat.le_of_ble_eq_true rfl) dX6_tear_7 (Nat.le_refl 0) (Nat.le_refl 0) (fun r3 S1 M2 H locs hF hH => ?_)
  exact zm_iret X hH rfl rfl hF dX6_tear_10
set_option maxHeartbeats 4000000 in
set_option maxRecDepth 100000 in
/-- place: what the bytecode asks is what its run needs -/
theorem wm_place (l : Launch) (D : va_G) (cI cZ : ClassId) (ad : Nat → Nat) (o : Nat) (hAd : zm_Ad ad o) (S : Nat → Int32) (M : Nat → Nat → Int32) (v1 : Int32) (v2 : Int32) (v3 : Int32) (v4 : Int32) (Q : Int32 → (Nat → Int32) → (Nat → Nat → Int32) → Prop) (hF : fm_place S M v1 v2 v3 v4 Q) :
    zm_Mi l yX6_place (ws_ yX6_place cX6_place 5 (some .int)) 7 D cI cZ ad o [.int v1, .int v2, .int v3, .int v4] S M Q := by
  refine zm_ofi rfl hAd (Nat.le_of_ble_eq_true rfl) ?_
  intro p e s m args below meth c H locs ls X hH hl
  have hx := X.1
  have hb := X.2.1
  have hl : lv_has ls 5 [(0, .ref o), (1, .int v1), (2, .int v2), (3, .int v3), (4, .int v4)] := hl
  unfold fm_place at hF
  refine lv_aload_n hx hb dX6_place_0 rfl (lv_at hl 0 rfl) ?_
  refine lv_iconst (v := 4) hx hb dX6_place_1 (by decide) ?_
  refine lv_iload_n hx hb dX6_place_2 rfl (lv_at hl 1 rfl) ?_
  refine lv_iload_n hx hb dX6_place_3 rfl (lv_at hl 2 rfl) ?_
  refine lv_iload_n hx hb dX6_place_4 rfl (lv_at hl 3 rfl) ?_
  refine lv_iload hx hb dX6_place_5 (lv_at hl 4 rfl) ?_
  refine lv_iconst (v := 0) hx hb dX6_place_7 (by decide) ?_
  refine zm_calli (As := [.int 4, .int v1, .int v2, .int v3, .int v4, .int 0]) (rest := []) X hH (wm_call l D cI cZ ad o X.2.2.2.2.2.2.2.2 S M 4 v1 v2 v3 v4 0 _ hF) (cwV 6 X.2.2.2.2.1 (lw_V q1872 q1874 qs28 q95 q1875) rfl rfl rfl (by decide +kernel) ⟨Nat.le_of_ble_eq_true rfl, Nat.le_of_ble_eq_true rfl⟩) rfl hl.1 rfl (Nat.le_of_ble_eq_true rfl) dX6_place_8 (Nat.le_refl 0) (Nat.le_refl 0) (fun r3 S1 M2 H locs hF hH => ?_)
  exact zm_iret X hH rfl rfl hF dX6_place_11
set_option maxHeartbeats 4000000 in
set_option maxRecDepth 100000 in
/-- grave: what the bytecode asks is what its run needs -/
theorem wm_grave (l : Launch) (D : va_G) (cI cZ : ClassId) (ad : Nat → Nat) (o : Nat) (hAd : zm_Ad ad o) (S : Nat → Int32) (M : Nat → Nat → Int32) (v1 : Int32) (v2 : Int32) (v3 : Int32) (v4 : Int32) (v5 : Int32) (Q : Int32 → (Nat → Int32) → (Nat → Nat → Int32) → Prop) (hF : fm_grave S M v1 v2 v3 v4 v5 Q) :
    zm_Mi l yX6_grave (ws_ yX6_grave cX6_grave 6 (some .int)) 7 D cI cZ ad o [.int v1, .int v2, .int v3, .int v4, .int v5] S M Q := by
  refine zm_ofi rfl hAd (Nat.le_of_ble_eq_true rfl) ?_
  intro p e s m args below meth c H locs ls X hH hl
  have hx := X.1
  have hb := X.2.1
  have hl : lv_has ls 6 [(0, .ref o), (1, .int v1), (2, .int v2), (3, .int v3), (4, .int v4), (5, .int v5)] := hl
  unfold fm_grave at hF
  refine lv_aload_n hx hb dX6_grave_0 rfl (lv_at hl 0 rfl) ?_
  refine lv_iconst (v := 5) hx hb dX6_grave_1 (by decide) ?_
  refine lv_iload_n hx hb dX6_grave_2 rfl (lv_at hl 1 rfl) ?_
  refine lv_iload_n hx hb dX6_grave_3 rfl (lv_at hl 2 rfl) ?_
  refine lv_iload_n hx hb dX6_grave_4 rfl (lv_at hl 3 rfl) ?_
  refine lv_iload hx hb dX6_grave_5 (lv_at hl 4 rfl) ?_
  refine lv_iload hx hb dX6_grave_7 (lv_at hl 5 rfl) ?_
  refine zm_calli (As := [.int 5, .int v1, .int v2, .int v3, .int v4, .int v5]) (rest := []) X hH (wm_call l D cI cZ ad o X.2.2.2.2.2.2.2.2 S M 5 v1 v2 v3 v4 v5 _ hF) (cwV 6 X.2.2.2.2.1 (lw_V q1872 q1874 qs28 q95 q1875) rfl rfl rfl (by decide +kernel) ⟨Nat.le_of_ble_eq_true rfl, Nat.le_of_ble_eq_true rfl⟩) rfl hl.1 rfl (Nat.le_of_ble_eq_true rfl) dX6_grave_9 (Nat.le_refl 0) (Nat.le_refl 0) (fun r3 S1 M2 H locs hF hH => ?_)
  exact zm_iret X hH rfl rfl hF dX6_grave_12
set_option maxHeartbeats 4000000 in
set_option maxRecDepth 100000 in
/-- person: what the bytecode asks is what its run needs -/
theorem wm_person (l : Launch) (D : va_G) (cI cZ : ClassId) (ad : Nat → Nat) (o : Nat) (hAd : zm_Ad ad o) (S : Nat → Int32) (M : Nat → Nat → Int32) (v1 : Int32) (Q : Int32 → (Nat → Int32) → (Nat → Nat → Int32) → Prop) (hF : fm_person S M v1 Q) :
    zm_Mi l yX6_person (ws_ yX6_person cX6_person 2 (some .int)) 7 D cI cZ ad o [.int v1] S M Q := by
  refine zm_ofi rfl hAd (Nat.le_of_ble_eq_true rfl) ?_
  intro p e s m args below meth c H locs ls X hH hl
  have hx := X.1
  have hb := X.2.1
  have hl : lv_has ls 2 [(0, .ref o), (1, .int v1)] := hl
  unfold fm_person at hF
  refine lv_aload_n hx hb dX6_person_0 rfl (lv_at hl 0 rfl) ?_
  refine lv_bipush (v := 6) hx hb dX6_person_1 (by decide) ?_
  refine lv_iload_n hx hb dX6_person_3 rfl (lv_at hl 1 rfl) ?_
  refine lv_iconst (v := 0) hx hb dX6_person_4 (by decide) ?_
  refine lv_iconst (v := 0) hx hb dX6_person_5 (by decide) ?_
  refine lv_iconst (v := 0) hx hb dX6_person_6 (by decide) ?_
  refine lv_iconst (v := 0) hx hb dX6_person_7 (by decide) ?_
  refine zm_calli (As := [.int 6, .int v1, .int 0, .int 0, .int 0, .int 0]) (rest := []) X hH (wm_call l D cI cZ ad o X.2.2.2.2.2.2.2.2 S M 6 v1 0 0 0 0 _ hF) (cwV 6 X.2.2.2.2.1 (lw_V q1872 q1874 qs28 q95 q1875) rfl rfl rfl (by decide +kernel) ⟨Nat.le_of_ble_eq_true rfl, Nat.le_of_ble_eq_true rfl⟩) rfl hl.1 rfl (Nat.le_of_ble_eq_true rfl) dX6_person_8 (Nat.le_refl 0) (Nat.le_refl 0) (fun r3 S1 M2 H locs hF hH => ?_)
  exact zm_iret X hH rfl rfl hF dX6_person_11
set_option maxHeartbeats 4000000 in
set_option maxRecDepth 100000 in
/-- kin: what the bytecode asks is what its run needs -/
theorem wm_kin (l : Launch) (D : va_G) (cI cZ : ClassId) (ad : Nat → Nat) (o : Nat) (hAd : zm_Ad ad o) (S : Nat → Int32) (M : Nat → Nat → Int32) (v1 : Int32) (v2 : Int32) (v3 : Int32) (Q : Int32 → (Nat → Int32) → (Nat → Nat → Int32) → Prop) (hF : fm_kin S M v1 v2 v3 Q) :
    zm_Mi l yX6_kin (ws_ yX6_kin cX6_kin 4 (some .int)) 7 D cI cZ ad o [.int v1, .int v2, .int v3] S M Q := by
  refine zm_ofi rfl hAd (Nat.le_of_ble_eq_true rfl) ?_
  intro p e s m args below meth c H locs ls X hH hl
  have hx := X.1
  have hb := X.2.1
  have hl : lv_has ls 4 [(0, .ref o), (1, .int v1), (2, .int v2), (3, .int v3)] := hl
  unfold fm_kin at hF
  refine lv_aload_n hx hb dX6_kin_0 rfl (lv_at hl 0 rfl) ?_
  refine lv_bipush (v := 7) hx hb dX6_kin_1 (by decide) ?_
  refine lv_iload_n hx hb dX6_kin_3 rfl (lv_at hl 1 rfl) ?_
  refine lv_iload_n hx hb dX6_kin_4 rfl (lv_at hl 2 rfl) ?_
  refine lv_iload_n hx hb dX6_kin_5 rfl (lv_at hl 3 rfl) ?_
  refine lv_iconst (v := 0) hx hb dX6_kin_6 (by decide) ?_
  refine lv_iconst (v := 0) hx hb dX6_kin_7 (by decide) ?_
  refine zm_calli (As := [.int 7, .int v1, .int v2, .int v3, .int 0, .int 0]) (rest := []) X hH (wm_call l D cI cZ ad o X.2.2.2.2.2.2.2.2 S M 7 v1 v2 v3 0 0 _ hF) (cwV 6 X.2.2.2.2.1 (lw_V q1872 q1874 qs28 q95 q1875) rfl rfl rfl (by decide +kernel) ⟨Nat.le_of_ble_eq_true rfl, Nat.le_of_ble_eq_true rfl⟩) rfl hl.1 rfl (Nat.le_of_ble_eq_true rfl) dX6_kin_8 (Nat.le_refl 0) (Nat.le_refl 0) (fun r3 S1 M2 H locs hF hH => ?_)
  exact zm_iret X hH rfl rfl hF dX6_kin_11
set_option maxHeartbeats 4000000 in
set_option maxRecDepth 100000 in
/-- paper: what the bytecode asks is what its run needs -/
theorem wm_paper (l : Launch) (D : va_G) (cI cZ : ClassId) (ad : Nat → Nat) (o : Nat) (hAd : zm_Ad ad o) (S : Nat → Int32) (M : Nat → Nat → Int32) (v1 : Int32) (v2 : Int32) (Q : Int32 → (Nat → Int32) → (Nat → Nat → Int32) → Prop) (hF : fm_paper S M v1 v2 Q) :
    zm_Mi l yX6_paper (ws_ yX6_paper cX6_paper 3 (some .int)) 7 D cI cZ ad o [.int v1, .int v2] S M Q := by
  refine zm_ofi rfl hAd (Nat.le_of_ble_eq_true rfl) ?_
  intro p e s m args below meth c H locs ls X hH hl
  have hx := X.1
  have hb := X.2.1
  have hl : lv_has ls 3 [(0, .ref o), (1, .int v1), (2, .int v2)] := hl
  unfold fm_paper at hF
  refine lv_aload_n hx hb dX6_paper_0 rfl (lv_at hl 0 rfl) ?_
  refine lv_bipush (v := 8) hx hb dX6_paper_1 (by decide) ?_
  refine lv_iload_n hx hb dX6_paper_3 rfl (lv_at hl 1 rfl) ?_
  refine lv_iload_n hx hb dX6_paper_4 rfl (lv_at hl 2 rfl) ?_
  refine lv_iconst (v := 0) hx hb dX6_paper_5 (by decide) ?_
  refine lv_iconst (v := 0) hx hb dX6_paper_6 (by decide) ?_
  refine lv_iconst (v := 0) hx hb dX6_paper_7 (by decide) ?_
  refine zm_calli (As := [.int 8, .int v1, .int v2, .int 0, .int 0, .int 0]) (rest := []) X hH (wm_call l D cI cZ ad o X.2.2.2.2.2.2.2.2 S M 8 v1 v2 0 0 0 _ hF) (cwV 6 X.2.2.2.2.1 (lw_V q1872 q1874 qs28 q95 q1875) rfl rfl rfl (by decide +kernel) ⟨Nat.le_of_ble_eq_true rfl, Nat.le_of_ble_eq_true rfl⟩) rfl hl.1 rfl (Nat.le_of_ble_eq_true rfl) dX6_paper_8 (Nat.le_refl 0) (Nat.le_refl 0) (fun r3 S1 M2 H locs hF hH => ?_)
  exact zm_iret X hH rfl rfl hF dX6_paper_11
set_option maxHeartbeats 4000000 in
set_option maxRecDepth 100000 in
/-- right: what the bytecode asks is what its run needs -/
theorem wm_right (l : Launch) (D : va_G) (cI cZ : ClassId) (ad : Nat → Nat) (o : Nat) (hAd : zm_Ad ad o) (S : Nat → Int32) (M : Nat → Nat → Int32) (v1 : Int32) (v2 : Int32) (v3 : Int32) (Q : Int32 → (Nat → Int32) → (Nat → Nat → Int32) → Prop) (hF : fm_right S M v1 v2 v3 Q) :
    zm_Mi l yX6_right (ws_ yX6_right cX6_right 4 (some .int)) 7 D cI cZ ad o [.int v1, .int v2, .int v3] S M Q := by
  refine zm_ofi rfl hAd (Nat.le_of_ble_eq_true rfl) ?_
  intro p e s m args below meth c H locs ls X hH hl
  have hx := X.1
  have hb := X.2.1
  have hl : lv_has ls 4 [(0, .ref o), (1, .int v1), (2, .int v2), (3, .int v3)] := hl
  unfold fm_right at hF
  refine lv_aload_n hx hb dX6_right_0 rfl (lv_at hl 0 rfl) ?_
  refine lv_bipush (v := 9) hx hb dX6_right_1 (by decide) ?_
  refine lv_iload_n hx hb dX6_right_3 rfl (lv_at hl 1 rfl) ?_
  refine lv_iload_n hx hb dX6_right_4 rfl (lv_at hl 2 rfl) ?_
  refine lv_iload_n hx hb dX6_right_5 rfl (lv_at hl 3 rfl) ?_
  refine lv_iconst (v := 0) hx hb dX6_right_6 (by decide) ?_
  refine lv_iconst (v := 0) hx hb dX6_right_7 (by decide) ?_
  refine zm_calli (As := [.int 9, .int v1, .int v2, .int v3, .int 0, .int 0]) (rest := []) X hH (wm_call l D cI cZ ad o X.2.2.2.2.2.2.2.2 S M 9 v1 v2 v3 0 0 _ hF) (cwV 6 X.2.2.2.2.1 (lw_V q1872 q1874 qs28 q95 q1875) rfl rfl rfl (by decide +kernel) ⟨Nat.le_of_ble_eq_true rfl, Nat.le_of_ble_eq_true rfl⟩) rfl hl.1 rfl (Nat.le_of_ble_eq_true rfl) dX6_right_8 (Nat.le_refl 0) (Nat.le_refl 0) (fun r3 S1 M2 H locs hF hH => ?_)
  exact zm_iret X hH rfl rfl hF dX6_right_11
set_option maxHeartbeats 4000000 in
set_option maxRecDepth 100000 in
/-- longer: what the bytecode asks is what its run needs -/
theorem wm_longer (l : Launch) (D : va_G) (cI cZ : ClassId) (ad : Nat → Nat) (o : Nat) (hAd : zm_Ad ad o) (S : Nat → Int32) (M : Nat → Nat → Int32) (v1 : Int32) (v2 : Int32) (Q : Int32 → (Nat → Int32) → (Nat → Nat → Int32) → Prop) (hF : fm_longer S M v1 v2 Q) :
    zm_Mi l yX6_longer (ws_ yX6_longer cX6_longer 3 (some .int)) 7 D cI cZ ad o [.int v1, .int v2] S M Q := by
  refine zm_ofi rfl hAd (Nat.le_of_ble_eq_true rfl) ?_
  intro p e s m args below meth c H locs ls X hH hl
  have hx := X.1
  have hb := X.2.1
  have hl : lv_has ls 3 [(0, .ref o), (1, .int v1), (2, .int v2)] := hl
  unfold fm_longer at hF
  refine lv_aload_n hx hb dX6_longer_0 rfl (lv_at hl 0 rfl) ?_
  refine lv_bipush (v := 10) hx hb dX6_longer_1 (by decide) ?_
  refine lv_iload_n hx hb dX6_longer_3 rfl (lv_at hl 1 rfl) ?_
  refine lv_iload_n hx hb dX6_longer_4 rfl (lv_at hl 2 rfl) ?_
  refine lv_iconst (v := 0) hx hb dX6_longer_5 (by decide) ?_
  refine lv_iconst (v := 0) hx hb dX6_longer_6 (by decide) ?_
  refine lv_iconst (v := 0) hx hb dX6_longer_7 (by decide) ?_
  refine zm_calli (As := [.int 10, .int v1, .int v2, .int 0, .int 0, .int 0]) (rest := []) X hH (wm_call l D cI cZ ad o X.2.2.2.2.2.2.2.2 S M 10 v1 v2 0 0 0 _ hF) (cwV 6 X.2.2.2.2.1 (lw_V q1872 q1874 qs28 q95 q1875) rfl rfl rfl (by decide +kernel) ⟨Nat.le_of_ble_eq_true rfl, Nat.le_of_ble_eq_true rfl⟩) rfl hl.1 rfl (Nat.le_of_ble_eq_true rfl) dX6_longer_8 (Nat.le_refl 0) (Nat.le_refl 0) (fun r3 S1 M2 H locs hF hH => ?_)
  exact zm_iret X hH rfl rfl hF dX6_longer_11
set_option maxHeartbeats 4000000 in
set_option maxRecDepth 100000 in
/-- agree: what the bytecode asks is what its run needs -/
theorem wm_agree (l : Launch) (D : va_G) (cI cZ : ClassId) (ad : Nat → Nat) (o : Nat) (hAd : zm_Ad ad o) (S : Nat → Int32) (M : Nat → Nat → Int32) (v1 : Int32) (v2 : Int32) (v3 : Int32) (Q : Int32 → (Nat → Int32) → (Nat → Nat → Int32) → Prop) (hF : fm_agree S M v1 v2 v3 Q) :
    zm_Mi l yX6_agree (ws_ yX6_agree cX6_agree 4 (some .int)) 7 D cI cZ ad o [.int v1, .int v2, .int v3] S M Q := by
  refine zm_ofi rfl hAd (Nat.le_of_ble_eq_true rfl) ?_
  intro p e s m args below meth c H locs ls X hH hl
  have hx := X.1
  have hb := X.2.1
  have hl : lv_has ls 4 [(0, .ref o), (1, .int v1), (2, .int v2), (3, .int v3)] := hl
  unfold fm_agree at hF
  refine lv_aload_n hx hb dX6_agree_0 rfl (lv_at hl 0 rfl) ?_
  refine lv_bipush (v := 11) hx hb dX6_agree_1 (by decide) ?_
  refine lv_iload_n hx hb dX6_agree_3 rfl (lv_at hl 1 rfl) ?_
  refine lv_iload_n hx hb dX6_agree_4 rfl (lv_at hl 2 rfl) ?_
  refine lv_iload_n hx hb dX6_agree_5 rfl (lv_at hl 3 rfl) ?_
  refine lv_iconst (v := 0) hx hb dX6_agree_6 (by decide) ?_
  refine lv_iconst (v := 0) hx hb dX6_agree_7 (by decide) ?_
  refine zm_calli (As := [.int 11, .int v1, .int v2, .int v3, .int 0, .int 0]) (rest := []) X hH (wm_call l D cI cZ ad o X.2.2.2.2.2.2.2.2 S M 11 v1 v2 v3 0 0 _ hF) (cwV 6 X.2.2.2.2.1 (lw_V q1872 q1874 qs28 q95 q1875) rfl rfl rfl (by decide +kernel) ⟨Nat.le_of_ble_eq_true rfl, Nat.le_of_ble_eq_true rfl⟩) rfl hl.1 rfl (Nat.le_of_ble_eq_true rfl) dX6_agree_8 (Nat.le_refl 0) (Nat.le_refl 0) (fun r3 S1 M2 H locs hF hH => ?_)
  exact zm_iret X hH rfl rfl hF dX6_agree_11
set_option maxHeartbeats 4000000 in
set_option maxRecDepth 100000 in
/-- dies: what the bytecode asks is what its run needs -/
theorem wm_dies (l : Launch) (D : va_G) (cI cZ : ClassId) (ad : Nat → Nat) (o : Nat) (hAd : zm_Ad ad o) (S : Nat → Int32) (M : Nat → Nat → Int32) (v1 : Int32) (Q : Int32 → (Nat → Int32) → (Nat → Nat → Int32) → Prop) (hF : fm_dies S M v1 Q) :
    zm_Mi l yX6_dies (ws_ yX6_dies cX6_dies 2 (some .int)) 7 D cI cZ ad o [.int v1] S M Q := by
  refine zm_ofi rfl hAd (Nat.le_of_ble_eq_true rfl) ?_
  intro p e s m args below meth c H locs ls X hH hl
  have hx := X.1
  have hb := X.2.1
  have hl : lv_has ls 2 [(0, .ref o), (1, .int v1)] := hl
  unfold fm_dies at hF
  refine lv_aload_n hx hb dX6_dies_0 rfl (lv_at hl 0 rfl) ?_
  refine lv_bipush (v := 12) hx hb dX6_dies_1 (by decide) ?_
  refine lv_iload_n hx hb dX6_dies_3 rfl (lv_at hl 1 rfl) ?_
  refine lv_iconst (v := 0) hx hb dX6_dies_4 (by decide) ?_
  refine lv_iconst (v := 0) hx hb dX6_dies_5 (by decide) ?_
  refine lv_iconst (v := 0) hx hb dX6_dies_6 (by decide) ?_
  refine lv_iconst (v := 0) hx hb dX6_dies_7 (by decide) ?_
  refine zm_calli (As := [.int 12, .int v1, .int 0, .int 0, .int 0, .int 0]) (rest := []) X hH (wm_call l D cI cZ ad o X.2.2.2.2.2.2.2.2 S M 12 v1 0 0 0 0 _ hF) (cwV 6 X.2.2.2.2.1 (lw_V q1872 q1874 qs28 q95 q1875) rfl rfl rfl (by decide +kernel) ⟨Nat.le_of_ble_eq_true rfl, Nat.le_of_ble_eq_true rfl⟩) rfl hl.1 rfl (Nat.le_of_ble_eq_true rfl) dX6_dies_8 (Nat.le_refl 0) (Nat.le_refl 0) (fun r3 S1 M2 H locs hF hH => ?_)
  exact zm_iret X hH rfl rfl hF dX6_dies_11
set_option maxHeartbeats 4000000 in
set_option maxRecDepth 100000 in
/-- takes: what the bytecode asks is what its run needs -/
theorem wm_takes (l : Launch) (D : va_G) (cI cZ : ClassId) (ad : Nat → Nat) (o : Nat) (hAd : zm_Ad ad o) (S : Nat → Int32) (M : Nat → Nat → Int32) (v1 : Int32) (Q : Int32 → (Nat → Int32) → (Nat → Nat → Int32) → Prop) (hF : fm_takes S M v1 Q) :
    zm_Mi l yX6_takes (ws_ yX6_takes cX6_takes 2 (some .int)) 7 D cI cZ ad o [.int v1] S M Q := by
  refine zm_ofi rfl hAd (Nat.le_of_ble_eq_true rfl) ?_
  intro p e s m args below meth c H locs ls X hH hl
  have hx := X.1
  have hb := X.2.1
  have hl : lv_has ls 2 [(0, .ref o), (1, .int v1)] := hl
  unfold fm_takes at hF
  refine lv_aload_n hx hb dX6_takes_0 rfl (lv_at hl 0 rfl) ?_
  refine lv_bipush (v := 13) hx hb dX6_takes_1 (by decide) ?_
  refine lv_iload_n hx hb dX6_takes_3 rfl (lv_at hl 1 rfl) ?_
  refine lv_iconst (v := 0) hx hb dX6_takes_4 (by decide) ?_
  refine lv_iconst (v := 0) hx hb dX6_takes_5 (by decide) ?_
  refine lv_iconst (v := 0) hx hb dX6_takes_6 (by decide) ?_
  refine lv_iconst (v := 0) hx hb dX6_takes_7 (by decide) ?_
  refine zm_calli (As := [.int 13, .int v1, .int 0, .int 0, .int 0, .int 0]) (rest := []) X hH (wm_call l D cI cZ ad o X.2.2.2.2.2.2.2.2 S M 13 v1 0 0 0 0 _ hF) (cwV 6 X.2.2.2.2.1 (lw_V q1872 q1874 qs28 q95 q1875) rfl rfl rfl (by decide +kernel) ⟨Nat.le_of_ble_eq_true rfl, Nat.le_of_ble_eq_true rfl⟩) rfl hl.1 rfl (Nat.le_of_ble_eq_true rfl) dX6_takes_8 (Nat.le_refl 0) (Nat.le_refl 0) (fun r3 S1 M2 H locs hF hH => ?_)
  exact zm_iret X hH rfl rfl hF dX6_takes_11
set_option maxHeartbeats 4000000 in
set_option maxRecDepth 100000 in
/-- refuses: what the bytecode asks is what its run needs -/
theorem wm_refuses (l : Launch) (D : va_G) (cI cZ : ClassId) (ad : Nat → Nat) (o : Nat) (hAd : zm_Ad ad o) (S : Nat → Int32) (M : Nat → Nat → Int32) (v1 : Int32) (Q : Int32 → (Nat → Int32) → (Nat → Nat → Int32) → Prop) (hF : fm_refuses S M v1 Q) :
    zm_Mi l yX6_refuses (ws_ yX6_refuses cX6_refuses 2 (some .int)) 7 D cI cZ ad o [.int v1] S M Q := by
  refine zm_ofi rfl hAd (Nat.le_of_ble_eq_true rfl) ?_
  intro p e s m args below meth c H locs ls X hH hl
  have hx := X.1
  have hb := X.2.1
  have hl : lv_has ls 2 [(0, .ref o), (1, .int v1)] := hl
  unfold fm_refuses at hF
  refine lv_aload_n hx hb dX6_refuses_0 rfl (lv_at hl 0 rfl) ?_
  refine lv_bipush (v := 14) hx hb dX6_refuses_1 (by decide) ?_
  refine lv_iload_n hx hb dX6_refuses_3 rfl (lv_at hl 1 rfl) ?_
  refine lv_iconst (v := 0) hx hb dX6_refuses_4 (by decide) ?_
  refine lv_iconst (v := 0) hx hb dX6_refuses_5 (by decide) ?_
  refine lv_iconst (v := 0) hx hb dX6_refuses_6 (by decide) ?_
  refine lv_iconst (v := 0) hx hb dX6_refuses_7 (by decide) ?_
  refine zm_calli (As := [.int 14, .int v1, .int 0, .int 0, .int 0, .int 0]) (rest := []) X hH (wm_call l D cI cZ ad o X.2.2.2.2.2.2.2.2 S M 14 v1 0 0 0 0 _ hF) (cwV 6 X.2.2.2.2.1 (lw_V q1872 q1874 qs28 q95 q1875) rfl rfl rfl (by decide +kernel) ⟨Nat.le_of_ble_eq_true rfl, Nat.le_of_ble_eq_true rfl⟩) rfl hl.1 rfl (Nat.le_of_ble_eq_true rfl) dX6_refuses_8 (Nat.le_refl 0) (Nat.le_refl 0) (fun r3 S1 M2 H locs hF hH => ?_)
  exact zm_iret X hH rfl rfl hF dX6_refuses_11
set_option maxHeartbeats 4000000 in
set_option maxRecDepth 100000 in
/-- bury: what the bytecode asks is what its run needs -/
theorem wm_bury (l : Launch) (D : va_G) (cI cZ : ClassId) (ad : Nat → Nat) (o : Nat) (hAd : zm_Ad ad o) (S : Nat → Int32) (M : Nat → Nat → Int32) (v1 : Int32) (v2 : Int32) (v3 : Int32) (v4 : Int32) (Q : Int32 → (Nat → Int32) → (Nat → Nat → Int32) → Prop) (hF : fm_bury S M v1 v2 v3 v4 Q) :
    zm_Mi l yX6_bury (ws_ yX6_bury cX6_bury 5 (some .int)) 7 D cI cZ ad o [.int v1, .int v2, .int v3, .int v4] S M Q := by
  refine zm_ofi rfl hAd (Nat.le_of_ble_eq_true rfl) ?_
  intro p e s m args below meth c H locs ls X hH hl
  have hx := X.1
  have hb := X.2.1
  have hl : lv_has ls 5 [(0, .ref o), (1, .int v1), (2, .int v2), (3, .int v3), (4, .int v4)] := hl
  unfold fm_bury at hF
  refine lv_aload_n hx hb dX6_bury_0 rfl (lv_at hl 0 rfl) ?_
  refine lv_bipush (v := 15) hx hb dX6_bury_1 (by decide) ?_
  refine lv_iload_n hx hb dX6_bury_3 rfl (lv_at hl 1 rfl) ?_
  refine lv_iload_n hx hb dX6_bury_4 rfl (lv_at hl 2 rfl) ?_
  refine lv_iload_n hx hb dX6_bury_5 rfl (lv_at hl 3 rfl) ?_
  refine lv_iload hx hb dX6_bury_6 (lv_at hl 4 rfl) ?_
  refine lv_iconst (v := 0) hx hb dX6_bury_8 (by decide) ?_
  refine zm_calli (As := [.int 15, .int v1, .int v2, .int v3, .int v4, .int 0]) (rest := []) X hH (wm_call l D cI cZ ad o X.2.2.2.2.2.2.2.2 S M 15 v1 v2 v3 v4 0 _ hF) (cwV 6 X.2.2.2.2.1 (lw_V q1872 q1874 qs28 q95 q1875) rfl rfl rfl (by decide +kernel) ⟨Nat.le_of_ble_eq_true rfl, Nat.le_of_ble_eq_true rfl⟩) rfl hl.1 rfl (Nat.le_of_ble_eq_true rfl) dX6_bury_9 (Nat.le_refl 0) (Nat.le_refl 0) (fun r3 S1 M2 H locs hF hH => ?_)
  exact zm_iret X hH rfl rfl hF dX6_bury_12
set_option maxHeartbeats 4000000 in
set_option maxRecDepth 100000 in
/-- move: what the bytecode asks is what its run needs -/
theorem wm_move (l : Launch) (D : va_G) (cI cZ : ClassId) (ad : Nat → Nat) (o : Nat) (hAd : zm_Ad ad o) (S : Nat → Int32) (M : Nat → Nat → Int32) (v1 : Int32) (v2 : Int32) (v3 : Int32) (v4 : Int32) (Q : Int32 → (Nat → Int32) → (Nat → Nat → Int32) → Prop) (hF : fm_move S M v1 v2 v3 v4 Q) :
    zm_Mi l yX6_move (ws_ yX6_move cX6_move 5 (some .int)) 7 D cI cZ ad o [.int v1, .int v2, .int v3, .int v4] S M Q := by
  refine zm_ofi rfl hAd (Nat.le_of_ble_eq_true rfl) ?_
  intro p e s m args below meth c H locs ls X hH hl
  have hx := X.1
  have hb := X.2.1
  have hl : lv_has ls 5 [(0, .ref o), (1, .int v1), (2, .int v2), (3, .int v3), (4, .int v4)] := hl
  unfold fm_move at hF
  refine lv_aload_n hx hb dX6_move_0 rfl (lv_at hl 0 rfl) ?_
  refine lv_bipush (v := 16) hx hb dX6_move_1 (by decide) ?_
  refine lv_iload_n hx hb dX6_move_3 rfl (lv_at hl 1 rfl) ?_
  refine lv_iload_n hx hb dX6_move_4 rfl (lv_at hl 2 rfl) ?_
  refine lv_iload_n hx hb dX6_move_5 rfl (lv_at hl 3 rfl) ?_
  refine lv_iload hx hb dX6_move_6 (lv_at hl 4 rfl) ?_
  refine lv_iconst (v := 0) hx hb dX6_move_8 (by decide) ?_
  refine zm_calli (As := [.int 16, .int v1, .int v2, .int v3, .int v4, .int 0]) (rest := []) X hH (wm_call l D cI cZ ad o X.2.2.2.2.2.2.2.2 S M 16 v1 v2 v3 v4 0 _ hF) (cwV 6 X.2.2.2.2.1 (lw_V q1872 q1874 qs28 q95 q1875) rfl rfl rfl (by decide +kernel) ⟨Nat.le_of_ble_eq_true rfl, Nat.le_of_ble_eq_true rfl⟩) rfl hl.1 rfl (Nat.le_of_ble_eq_true rfl) dX6_move_9 (Nat.le_refl 0) (Nat.le_refl 0) (fun r3 S1 M2 H locs hF hH => ?_)
  exact zm_iret X hH rfl rfl hF dX6_move_12
set_option maxHeartbeats 4000000 in
set_option maxRecDepth 100000 in
/-- clear: what the bytecode asks is what its run needs -/
theorem wm_clear (l : Launch) (D : va_G) (cI cZ : ClassId) (ad : Nat → Nat) (o : Nat) (hAd : zm_Ad ad o) (S : Nat → Int32) (M : Nat → Nat → Int32) (v1 : Int32) (Q : Int32 → (Nat → Int32) → (Nat → Nat → Int32) → Prop) (hF : fm_clear S M v1 Q) :
    zm_Mi l yX6_clear (ws_ yX6_clear cX6_clear 2 (some .int)) 7 D cI cZ ad o [.int v1] S M Q := by
  refine zm_ofi rfl hAd (Nat.le_of_ble_eq_true rfl) ?_
  intro p e s m args below meth c H locs ls X hH hl
  have hx := X.1
  have hb := X.2.1
  have hl : lv_has ls 2 [(0, .ref o), (1, .int v1)] := hl
  unfold fm_clear at hF
  refine lv_aload_n hx hb dX6_clear_0 rfl (lv_at hl 0 rfl) ?_
  refine lv_bipush (v := 17) hx hb dX6_clear_1 (by decide) ?_
  refine lv_iload_n hx hb dX6_clear_3 rfl (lv_at hl 1 rfl) ?_
  refine lv_iconst (v := 0) hx hb dX6_clear_4 (by decide) ?_
  refine lv_iconst (v := 0) hx hb dX6_clear_5 (by decide) ?_
  refine lv_iconst (v := 0) hx hb dX6_clear_6 (by decide) ?_
  refine lv_iconst (v := 0) hx hb dX6_clear_7 (by decide) ?_
  refine zm_calli (As := [.int 17, .int v1, .int 0, .int 0, .int 0, .int 0]) (rest := []) X hH (wm_call l D cI cZ ad o X.2.2.2.2.2.2.2.2 S M 17 v1 0 0 0 0 _ hF) (cwV 6 X.2.2.2.2.1 (lw_V q1872 q1874 qs28 q95 q1875) rfl rfl rfl (by decide +kernel) ⟨Nat.le_of_ble_eq_true rfl, Nat.le_of_ble_eq_true rfl⟩) rfl hl.1 rfl (Nat.le_of_ble_eq_true rfl) dX6_clear_8 (Nat.le_refl 0) (Nat.le_refl 0) (fun r3 S1 M2 H locs hF hH => ?_)
  exact zm_iret X hH rfl rfl hF dX6_clear_11
set_option maxHeartbeats 4000000 in
set_option maxRecDepth 100000 in
/-- turn: what the bytecode asks is what its run needs -/
theorem wm_turn (l : Launch) (D : va_G) (cI cZ : ClassId) (ad : Nat → Nat) (o : Nat) (hAd : zm_Ad ad o) (S : Nat → Int32) (M : Nat → Nat → Int32) (v1 : Int32) (Q : Int32 → (Nat → Int32) → (Nat → Nat → Int32) → Prop) (hF : fm_turn S M v1 Q) :
    zm_Mi l yX6_turn (ws_ yX6_turn cX6_turn 2 (some .int)) 7 D cI cZ ad o [.int v1] S M Q := by
  refine zm_ofi rfl hAd (Nat.le_of_ble_eq_true rfl) ?_
  intro p e s m args below meth c H locs ls X hH hl
  have hx := X.1
  have hb := X.2.1
  have hl : lv_has ls 2 [(0, .ref o), (1, .int v1)] := hl
  unfold fm_turn at hF
  refine lv_aload_n hx hb dX6_turn_0 rfl (lv_at hl 0 rfl) ?_
  refine lv_bipush (v := 18) hx hb dX6_turn_1 (by decide) ?_
  refine lv_iload_n hx hb dX6_turn_3 rfl (lv_at hl 1 rfl) ?_
  refine lv_iconst (v := 0) hx hb dX6_turn_4 (by decide) ?_
  refine lv_iconst (v := 0) hx hb dX6_turn_5 (by decide) ?_
  refine lv_iconst (v := 0) hx hb dX6_turn_6 (by decide) ?_
  refine lv_iconst (v := 0) hx hb dX6_turn_7 (by decide) ?_
  refine zm_calli (As := [.int 18, .int v1, .int 0, .int 0, .int 0, .int 0]) (rest := []) X hH (wm_call l D cI cZ ad o X.2.2.2.2.2.2.2.2 S M 18 v1 0 0 0 0 _ hF) (cwV 6 X.2.2.2.2.1 (lw_V q1872 q1874 qs28 q95 q1875) rfl rfl rfl (by decide +kernel) ⟨Nat.le_of_ble_eq_true rfl, Nat.le_of_ble_eq_true rfl⟩) rfl hl.1 rfl (Nat.le_of_ble_eq_true rfl) dX6_turn_8 (Nat.le_refl 0) (Nat.le_refl 0) (fun r3 S1 M2 H locs hF hH => ?_)
  exact zm_iret X hH rfl rfl hF dX6_turn_11
set_option maxHeartbeats 4000000 in
set_option maxRecDepth 100000 in
/-- why: what the bytecode asks is what its run needs -/
theorem wm_why (l : Launch) (D : va_G) (cI cZ : ClassId) (ad : Nat → Nat) (o : Nat) (hAd : zm_Ad ad o) (S : Nat → Int32) (M : Nat → Nat → Int32) (v1 : Int32) (v2 : Int32) (v3 : Int32) (v4 : Int32) (Q : Int32 → (Nat → Int32) → (Nat → Nat → Int32) → Prop) (hF : fm_why S M v1 v2 v3 v4 Q) :
    zm_Mi l yX6_why (ws_ yX6_why cX6_why 5 (some .int)) 3 D cI cZ ad o [.int v1, .int v2, .int v3, .int v4] S M Q := by
  refine zm_ofi rfl hAd (Nat.le_of_ble_eq_true rfl) ?_
  intro p e s m args below meth c H locs ls X hH hl
  have hx := X.1
  have hb := X.2.1
  have hl : lv_has ls 5 [(0, .ref o), (1, .int v1), (2, .int v2), (3, .int v3), (4, .int v4)] := hl
  unfold fm_why at hF
  refine lv_aload_n hx hb dX6_why_0 rfl (lv_at hl 0 rfl) ?_
  refine lv_iconst (v := 0) hx hb dX6_why_1 (by decide) ?_
  refine zm_puti X hH 0 (by decide) rfl rfl (by decide +kernel) q1713 dX6_why_2 (fun S1 H locs eS1 hH => ?_)
  have hF := hF S1 eS1
  refine lv_aload_n hx hb dX6_why_5 rfl (lv_at hl 0 rfl) ?_
  refine lv_iload_n hx hb dX6_why_6 rfl (lv_at hl 1 rfl) ?_
  refine lv_iload_n hx hb dX6_why_7 rfl (lv_at hl 2 rfl) ?_
  refine lv_iload_n hx hb dX6_why_8 rfl (lv_at hl 3 rfl) ?_
  refine lv_iload hx hb dX6_why_9 (lv_at hl 4 rfl) ?_
  refine lv_iconst (v := 0) hx hb dX6_why_11 (by decide) ?_
  refine lv_iconst (v := 0) hx hb dX6_why_12 (by decide) ?_
  refine zm_calli (As := [.int v1, .int v2, .int v3, .int v4, .int 0, .int 0]) (rest := []) X hH (wm_whyNot l D cI cZ ad o X.2.2.2.2.2.2.2.2 S1 M v1 v2 v3 v4 0 0 _ hF) (cwV 6 X.2.2.2.2.1 (lw_V q2011 q2013 qs62 q95 q2014) rfl rfl rfl (by decide +kernel) ⟨Nat.le_of_ble_eq_true rfl, Nat.le_of_ble_eq_true rfl⟩) rfl hl.1 rfl (Nat.le_of_ble_eq_true rfl) dX6_why_13 (Nat.le_refl 0) (Nat.le_refl 0) (fun r4 S2 M3 H locs hF hH => ?_)
  obtain ⟨hF, e9, e8⟩ := hF; subst e9; subst e8
  exact zm_iret X hH rfl rfl hF dX6_why_16
set_option maxHeartbeats 4000000 in
set_option maxRecDepth 100000 in
/-- openFrom: what the bytecode asks is what its run needs -/
theorem wm_openFrom (l : Launch) (D : va_G) (cI cZ : ClassId) (ad : Nat → Nat) (o : Nat) (hAd : zm_Ad ad o) (S : Nat → Int32) (M : Nat → Nat → Int32) (v1 : Int32) (v2 : Int32) (v3 : Int32) (Q : Int32 → Prop) (hF : fm_openFrom S M v1 v2 v3 Q) :
    zm_Mi l yX6_openFrom (ws_ yX6_openFrom cX6_openFrom 5 (some .int)) 1 D cI cZ ad o [.int v1, .int v2, .int v3] S M (fun r S1 M1 => Q r ∧ S = S1 ∧ M = M1) := by
  refine zm_ofi rfl hAd (Nat.le_of_ble_eq_true rfl) ?_
  intro p e s m args below meth c H locs ls X hH hl
  have hx := X.1
  have hb := X.2.1
  have hl : lv_has ls 5 [(0, .ref o), (1, .int v1), (2, .int v2), (3, .int v3)] := hl
  unfold fm_openFrom at hF
  refine lv_aload_n hx hb dX6_openFrom_0 rfl (lv_at hl 0 rfl) ?_
  refine zm_getf X hH 24 (by decide) rfl q1737 dX6_openFrom_1 ?_
  refine lv_bipush (v := 8) hx hb dX6_openFrom_4 (by decide) ?_
  refine lv_iload_n hx hb dX6_openFrom_6 rfl (lv_at hl 1 rfl) ?_
  refine lv_imul hx hb dX6_openFrom_7 ?_
  refine lv_iconst (v := 2) hx hb dX6_openFrom_8 (by decide) ?_
  refine lv_iload_n hx hb dX6_openFrom_9 rfl (lv_at hl 2 rfl) ?_
  refine lv_imul hx hb dX6_openFrom_10 ?_
  refine lv_iadd hx hb dX6_openFrom_11 ?_
  refine lv_iload_n hx hb dX6_openFrom_12 rfl (lv_at hl 3 rfl) ?_
  refine lv_iadd hx hb dX6_openFrom_13 ?_
  obtain ⟨hI, hF⟩ := hF
  refine zm_iald X hH 24 (by decide) rfl (n := 1200) rfl hI dX6_openFrom_14 ?_
  refine lv_topi (fun x1 ex1 => ?_)
  have hF := hF x1 ex1
  refine lv_istore (lv' := [(4, .int x1), (0, .ref o), (1, .int v1), (2, .int v2), (3, .int v3)]) hx hb dX6_openFrom_15 hl (by decide) rfl (fun ls hl => ?_)
  refine lv_aload_n hx hb dX6_openFrom_17 rfl (lv_at hl 1 rfl) ?_
  refine lv_iload hx hb dX6_openFrom_18 (lv_at hl 0 rfl) ?_
  refine zm_calli (As := [.int x1]) (rest := []) X hH (wm_rests l D cI cZ ad o X.2.2.2.2.2.2.2.2 S M x1 _ hF) (cwV 1 X.2.2.2.2.1 (lw_V q2027 q2029 qs66 q95 q2030) rfl rfl rfl (by decide +kernel) ⟨Nat.le_of_ble_eq_true rfl, Nat.le_of_ble_eq_true rfl⟩) rfl hl.1 rfl (Nat.le_of_ble_eq_true rfl) dX6_openFrom_20 (Nat.le_refl 0) (Nat.le_refl 0) (fun r4 S2 M3 H locs hF hH => ?_)
  obtain ⟨hF, e9, e8⟩ := hF; subst e9; subst e8
  refine lv_if_eq (tgt := 36) hx hb dX6_openFrom_23 (by decide) (fun cd => ?_) (fun cd => ?_)
  · have hF := hF.1 cd
    refine lv_aload_n hx hb dX6_openFrom_36 rfl (lv_at hl 1 rfl) ?_
    refine zm_getf X hH 1 (by decide) rfl q1714 dX6_openFrom_37 ?_
    exact zm_iret X hH rfl rfl ⟨hF, rfl, rfl⟩ dX6_openFrom_40
  · have hF := hF.2 cd
    refine lv_aload_n hx hb dX6_openFrom_26 rfl (lv_at hl 1 rfl) ?_
    refine zm_getf X hH 34 (by decide) rfl q1747 dX6_openFrom_27 ?_
    refine lv_iload hx hb dX6_openFrom_30 (lv_at hl 0 rfl) ?_
    obtain ⟨hI, hF⟩ := hF
    refine zm_iald X hH 34 (by decide) rfl (n := 150) rfl hI dX6_openFrom_32 ?_
    refine lv_goto (tgt := 40) hx hb dX6_openFrom_33 (by decide) ?_
    exact zm_iret X hH rfl rfl ⟨hF, rfl, rfl⟩ dX6_openFrom_40
set_option maxHeartbeats 4000000 in
set_option maxRecDepth 100000 in
theorem wm_planned_184 {p : Program} {l : Launch} {e : Env} {s : State} {m : MethodId} {args : Array Value} {below : List Frame} {meth : Method} {c : Code} {D : va_G} {cI cZ : ClassId} {ad : Nat → Nat} {o : Nat} {Q : Int32 → Prop} {K102 : (Nat → Int32) → (Nat → Nat → Int32) → Int32 → Int32 → Int32 → Int32 → Int32 → Int32 → Prop} {S0 : Nat → Int32} {M0 : Nat → Nat → Int32} (X : zm_Cx p s m args meth c cX6_planned 12 (some .int) D cI cZ ad o) (hK102 : ∀ (S : Nat → Int32) (M : Nat → Nat → Int32) (v3 : Int32) (v4 : Int32) (v6 : Int32) (v7 : Int32) (v8 : Int32) (v9 : Int32), K102 S M v3 v4 v6 v7 v8 v9 → ∀ (H : Heap) (locs : List Loc) (ls : Array Slot), S0 = S → M0 = M → lv_has ls 12 [(0, .ref o), (3, .int v3), (4, .int v4), (6, .int v6), (7, .int v7), (8, .int v8), (9, .int v9)] → zm_H D cI cZ ad o S M s H locs → W p l e (zm_R 2) s m args below meth c H locs 0 0 (MQ below (zm_QS (fun r S1 M1 => Q r ∧ S0 = S1 ∧ M0 = M1) D cI cZ ad o) args s 0 0 (zm_A ad o)) (F0 m 102 ls [])) :
    ∀ (S : Nat → Int32) (M : Nat → Nat → Int32) (v3 : Int32) (v4 : Int32) (v6 : Int32) (v7 : Int32) (v8 : Int32) (v9 : Int32), fm_planned_184 Q K102 S M v3 v4 v6 v7 v8 v9 → ∀ (H : Heap) (locs : List Loc) (ls : Array Slot), S0 = S → M0 = M → lv_has ls 12 [(0, .ref o), (3, .int v3), (4, .int v4), (6, .int v6), (7, .int v7), (8, .int v8), (9, .int v9)] → zm_H D cI cZ ad o S M s H locs → W p l e (zm_R 2) s m args below meth c H locs 0 0 (MQ below (zm_QS (fun r S1 M1 => Q r ∧ S0 = S1 ∧ M0 = M1) D cI cZ ad o) args s 0 0 (zm_A ad o)) (F0 m 184 ls []) := by
  have hx := X.1
  have hb := X.2.1
  intro S M v3 v4 v6 v7 v8 v9 hF
  intro H locs ls eS eM hl hH
  unfold fm_planned_184 at hF
  obtain ⟨x1, ex1⟩ : ∃ z : Int32, z = v8 + 1 := ⟨_, rfl⟩
  have hF := hF x1 ex1
  refine lv_iinc (v := x1) (lv' := [(8, .int x1), (0, .ref o), (3, .int v3), (4, .int v4), (6, .int v6), (7, .int v7), (9, .int v9)]) hx hb dX6_planned_184 hl (k := 5) rfl (by rw [ex1]; rfl) (by decide) rfl (fun ls hl => ?_)
  refine lv_iload hx hb dX6_planned_187 (lv_at hl 6 rfl) ?_
  refine lv_iload_n hx hb dX6_planned_189 rfl (lv_at hl 2 rfl) ?_
  refine lv_iadd hx hb dX6_planned_190 ?_
  refine lv_topi (fun x2 ex2 => ?_)
  have hF := hF x2 ex2
  refine lv_istore (lv' := [(9, .int x2), (8, .int x1), (0, .ref o), (3, .int v3), (4, .int v4), (6, .int v6), (7, .int v7)]) hx hb dX6_planned_191 hl (by decide) rfl (fun ls hl => ?_)
  refine lv_goto (tgt := 102) hx hb dX6_planned_193 (by decide) ?_
  exact hK102 S M v3 v4 v6 v7 x1 x2 hF _ _ _ eS eM (lv_sub hl [2, 3, 4, 5, 6, 1, 0] rfl) hH
set_option maxHeartbeats 4000000 in
set_option maxRecDepth 100000 in
theorem wm_planned_180 {p : Program} {l : Launch} {e : Env} {s : State} {m : MethodId} {args : Array Value} {below : List Frame} {meth : Method} {c : Code} {D : va_G} {cI cZ : ClassId} {ad : Nat → Nat} {o : Nat} {Q : Int32 → Prop} {K102 : (Nat → Int32) → (Nat → Nat → Int32) → Int32 → Int32 → Int32 → Int32 → Int32 → Int32 → Prop} {S0 : Nat → Int32} {M0 : Nat → Nat → Int32} (X : zm_Cx p s m args meth c cX6_planned 12 (some .int) D cI cZ ad o) (hK102 : ∀ (S : Nat → Int32) (M : Nat → Nat → Int32) (v3 : Int32) (v4 : Int32) (v6 : Int32) (v7 : Int32) (v8 : Int32) (v9 : Int32), K102 S M v3 v4 v6 v7 v8 v9 → ∀ (H : Heap) (locs : List Loc) (ls : Array Slot), S0 = S → M0 = M → lv_has ls 12 [(0, .ref o), (3, .int v3), (4, .int v4), (6, .int v6), (7, .int v7), (8, .int v8), (9, .int v9)] → zm_H D cI cZ ad o S M s H locs → W p l e (zm_R 2) s m args below meth c H locs 0 0 (MQ below (zm_QS (fun r S1 M1 => Q r ∧ S0 = S1 ∧ M0 = M1) D cI cZ ad o) args s 0 0 (zm_A ad o)) (F0 m 102 ls [])) :
    ∀ (S : Nat → Int32) (M : Nat → Nat → Int32) (v3 : Int32) (v4 : Int32) (v6 : Int32) (v7 : Int32) (v9 : Int32), fm_planned_180 Q K102 S M v3 v4 v6 v7 v9 → ∀ (H : Heap) (locs : List Loc) (ls : Array Slot), S0 = S → M0 = M → lv_has ls 12 [(0, .ref o), (3, .int v3), (4, .int v4), (6, .int v6), (7, .int v7), (9, .int v9)] → zm_H D cI cZ ad o S M s H locs → W p l e (zm_R 2) s m args below meth c H locs 0 0 (MQ below (zm_QS (fun r S1 M1 => Q r ∧ S0 = S1 ∧ M0 = M1) D cI cZ ad o) args s 0 0 (zm_A ad o)) (F0 m 180 ls []) := by
  have hx := X.1
  have hb := X.2.1
  intro S M v3 v4 v6 v7 v9 hF
  intro H locs ls eS eM hl hH
  unfold fm_planned_180 at hF
  refine lv_bipush (v := (-2)) hx hb dX6_planned_180 (by decide) ?_
  refine lv_topi (fun x1 ex1 => ?_)
  have hF := hF x1 ex1
  refine lv_istore (lv' := [(8, .int x1), (0, .ref o), (3, .int v3), (4, .int v4), (6, .int v6), (7, .int v7), (9, .int v9)]) hx hb dX6_planned_182 hl (by decide) rfl (fun ls hl => ?_)
  exact wm_planned_184 X hK102 S M v3 v4 v6 v7 x1 v9 hF _ _ _ eS eM (lv_sub hl [1, 2, 3, 4, 5, 0, 6] rfl) hH
set_option maxHeartbeats 4000000 in
set_option maxRecDepth 100000 in
theorem wm_planned_164 {p : Program} {l : Launch} {e : Env} {s : State} {m : MethodId} {args : Array Value} {below : List Frame} {meth : Method} {c : Code} {D : va_G} {cI cZ : ClassId} {ad : Nat → Nat} {o : Nat} {Q : Int32 → Prop} {K102 : (Nat → Int32) → (Nat → Nat → Int32) → Int32 → Int32 → Int32 → Int32 → Int32 → Int32 → Prop} {S0 : Nat → Int32} {M0 : Nat → Nat → Int32} (X : zm_Cx p s m args meth c cX6_planned 12 (some .int) D cI cZ ad o) (hK102 : ∀ (S : Nat → Int32) (M : Nat → Nat → Int32) (v3 : Int32) (v4 : Int32) (v6 : Int32) (v7 : Int32) (v8 : Int32) (v9 : Int32), K102 S M v3 v4 v6 v7 v8 v9 → ∀ (H : Heap) (locs : List Loc) (ls : Array Slot), S0 = S → M0 = M → lv_has ls 12 [(0, .ref o), (3, .int v3), (4, .int v4), (6, .int v6), (7, .int v7), (8, .int v8), (9, .int v9)] → zm_H D cI cZ ad o S M s H locs → W p l e (zm_R 2) s m args below meth c H locs 0 0 (MQ below (zm_QS (fun r S1 M1 => Q r ∧ S0 = S1 ∧ M0 = M1) D cI cZ ad o) args s 0 0 (zm_A ad o)) (F0 m 102 ls [])) :
    ∀ (S : Nat → Int32) (M : Nat → Nat → Int32) (v3 : Int32) (v4 : Int32) (v6 : Int32) (v8 : Int32) (v9 : Int32) (t0 : Int32), fm_planned_164 Q K102 S M v3 v4 v6 v8 v9 t0 → ∀ (H : Heap) (locs : List Loc) (ls : Array Slot), S0 = S → M0 = M → lv_has ls 12 [(0, .ref o), (3, .int v3), (4, .int v4), (6, .int v6), (8, .int v8), (9, .int v9)] → zm_H D cI cZ ad o S M s H locs → W p l e (zm_R 2) s m args below meth c H locs 0 0 (MQ below (zm_QS (fun r S1 M1 => Q r ∧ S0 = S1 ∧ M0 = M1) D cI cZ ad o) args s 0 0 (zm_A ad o)) (F0 m 164 ls [.int t0]) := by
  have hx := X.1
  have hb := X.2.1
  intro S M v3 v4 v6 v8 v9 t0 hF
  intro H locs ls eS eM hl hH
  unfold fm_planned_164 at hF
  refine lv_istore (lv' := [(7, .int t0), (0, .ref o), (3, .int v3), (4, .int v4), (6, .int v6), (8, .int v8), (9, .int v9)]) hx hb dX6_planned_164 hl (by decide) rfl (fun ls hl => ?_)
  refine lv_iload hx hb dX6_planned_166 (lv_at hl 6 rfl) ?_
  refine lv_iload hx hb dX6_planned_168 (lv_at hl 4 rfl) ?_
  refine lv_icmp_ge (tgt := 180) hx hb dX6_planned_170 (by decide) (fun cd => ?_) (fun cd => ?_)
  · have hF := hF.1 cd
    exact wm_planned_180 X hK102 S M v3 v4 v6 t0 v9 hF _ _ _ eS eM (lv_sub hl [1, 2, 3, 4, 0, 6] rfl) hH
  · have hF := hF.2 cd
    refine lv_iload hx hb dX6_planned_173 (lv_at hl 6 rfl) ?_
    refine lv_iload hx hb dX6_planned_175 (lv_at hl 3 rfl) ?_
    refine lv_icmp_le (tgt := 184) hx hb dX6_planned_177 (by decide) (fun cd => ?_) (fun cd => ?_)
    · have hF := hF.1 cd
      exact wm_planned_184 X hK102 S M v3 v4 v6 t0 v8 v9 hF _ _ _ eS eM (lv_sub hl [1, 2, 3, 4, 0, 5, 6] rfl) hH
    · have hF := hF.2 cd
      exact wm_planned_180 X hK102 S M v3 v4 v6 t0 v9 hF _ _ _ eS eM (lv_sub hl [1, 2, 3, 4, 0, 6] rfl) hH
set_option maxHeartbeats 4000000 in
set_option maxRecDepth 100000 in
theorem wm_planned_147 {p : Program} {l : Launch} {e : Env} {s : State} {m : MethodId} {args : Array Value} {below : List Frame} {meth : Method} {c : Code} {D : va_G} {cI cZ : ClassId} {ad : Nat → Nat} {o : Nat} {Q : Int32 → Prop} {K102 : (Nat → Int32) → (Nat → Nat → Int32) → Int32 → Int32 → Int32 → Int32 → Int32 → Int32 → Prop} {S0 : Nat → Int32} {M0 : Nat → Nat → Int32} (X : zm_Cx p s m args meth c cX6_planned 12 (some .int) D cI cZ ad o) (hK102 : ∀ (S : Nat → Int32) (M : Nat → Nat → Int32) (v3 : Int32) (v4 : Int32) (v6 : Int32) (v7 : Int32) (v8 : Int32) (v9 : Int32), K102 S M v3 v4 v6 v7 v8 v9 → ∀ (H : Heap) (locs : List Loc) (ls : Array Slot), S0 = S → M0 = M → lv_has ls 12 [(0, .ref o), (3, .int v3), (4, .int v4), (6, .int v6), (7, .int v7), (8, .int v8), (9, .int v9)] → zm_H D cI cZ ad o S M s H locs → W p l e (zm_R 2) s m args below meth c H locs 0 0 (MQ below (zm_QS (fun r S1 M1 => Q r ∧ S0 = S1 ∧ M0 = M1) D cI cZ ad o) args s 0 0 (zm_A ad o)) (F0 m 102 ls [])) :
    ∀ (S : Nat → Int32) (M : Nat → Nat → Int32) (v3 : Int32) (v4 : Int32) (v6 : Int32) (v7 : Int32) (v8 : Int32) (v9 : Int32) (t0 : Int32) (t1 : Int32), fm_planned_147 Q K102 S M v3 v4 v6 v7 v8 v9 t0 t1 → ∀ (H : Heap) (locs : List Loc) (ls : Array Slot), S0 = S → M0 = M → lv_has ls 12 [(0, .ref o), (3, .int v3), (4, .int v4), (6, .int v6), (7, .int v7), (8, .int v8), (9, .int v9)] → zm_H D cI cZ ad o S M s H locs → W p l e (zm_R 2) s m args below meth c H locs 0 0 (MQ below (zm_QS (fun r S1 M1 => Q r ∧ S0 = S1 ∧ M0 = M1) D cI cZ ad o) args s 0 0 (zm_A ad o)) (F0 m 147 ls [.int t1, .int t0]) := by
  have hx := X.1
  have hb := X.2.1
  intro S M v3 v4 v6 v7 v8 v9 t0 t1 hF
  intro H locs ls eS eM hl hH
  unfold fm_planned_147 at hF
  refine lv_iadd hx hb dX6_planned_147 ?_
  refine lv_topi (fun x1 ex1 => ?_)
  have hF := hF x1 ex1
  refine lv_istore (lv' := [(11, .int x1), (0, .ref o), (3, .int v3), (4, .int v4), (6, .int v6), (7, .int v7), (8, .int v8), (9, .int v9)]) hx hb dX6_planned_148 hl (by decide) rfl (fun ls hl => ?_)
  refine lv_iload hx hb dX6_planned_150 (lv_at hl 0 rfl) ?_
  refine lv_iload hx hb dX6_planned_152 (lv_at hl 5 rfl) ?_
  refine lv_icmp_le (tgt := 162) hx hb dX6_planned_154 (by decide) (fun cd => ?_) (fun cd => ?_)
  · have hF := hF.1 cd
    refine lv_iload hx hb dX6_planned_162 (lv_at hl 5 rfl) ?_
    exact wm_planned_164 X hK102 S M v3 v4 v6 v8 v9 v7 hF _ _ _ eS eM (lv_sub hl [1, 2, 3, 4, 6, 7] rfl) hH
  · have hF := hF.2 cd
    refine lv_iload hx hb dX6_planned_157 (lv_at hl 0 rfl) ?_
    refine lv_goto (tgt := 164) hx hb dX6_planned_159 (by decide) ?_
    exact wm_planned_164 X hK102 S M v3 v4 v6 v8 v9 x1 hF _ _ _ eS eM (lv_sub hl [1, 2, 3, 4, 6, 7] rfl) hH
set_option maxHeartbeats 4000000 in
set_option maxRecDepth 100000 in
theorem wm_planned_121 {p : Program} {l : Launch} {e : Env} {s : State} {m : MethodId} {args : Array Value} {below : List Frame} {meth : Method} {c : Code} {D : va_G} {cI cZ : ClassId} {ad : Nat → Nat} {o : Nat} {Q : Int32 → Prop} {K102 : (Nat → Int32) → (Nat → Nat → Int32) → Int32 → Int32 → Int32 → Int32 → Int32 → Int32 → Prop} {S0 : Nat → Int32} {M0 : Nat → Nat → Int32} (X : zm_Cx p s m args meth c cX6_planned 12 (some .int) D cI cZ ad o) (hK102 : ∀ (S : Nat → Int32) (M : Nat → Nat → Int32) (v3 : Int32) (v4 : Int32) (v6 : Int32) (v7 : Int32) (v8 : Int32) (v9 : Int32), K102 S M v3 v4 v6 v7 v8 v9 → ∀ (H : Heap) (locs : List Loc) (ls : Array Slot), S0 = S → M0 = M → lv_has ls 12 [(0, .ref o), (3, .int v3), (4, .int v4), (6, .int v6), (7, .int v7), (8, .int v8), (9, .int v9)] → zm_H D cI cZ ad o S M s H locs → W p l e (zm_R 2) s m args below meth c H locs 0 0 (MQ below (zm_QS (fun r S1 M1 => Q r ∧ S0 = S1 ∧ M0 = M1) D cI cZ ad o) args s 0 0 (zm_A ad o)) (F0 m 102 ls [])) :
    ∀ (S : Nat → Int32) (M : Nat → Nat → Int32) (v3 : Int32) (v4 : Int32) (v6 : Int32) (v7 : Int32) (v8 : Int32) (v9 : Int32) (t0 : Int32), fm_planned_121 Q K102 S M v3 v4 v6 v7 v8 v9 t0 → ∀ (H : Heap) (locs : List Loc) (ls : Array Slot), S0 = S → M0 = M → lv_has ls 12 [(0, .ref o), (3, .int v3), (4, .int v4), (6, .int v6), (7, .int v7), (8, .int v8), (9, .int v9)] → zm_H D cI cZ ad o S M s H locs → W p l e (zm_R 2) s m args below meth c H locs 0 0 (MQ below (zm_QS (fun r S1 M1 => Q r ∧ S0 = S1 ∧ M0 = M1) D cI cZ ad o) args s 0 0 (zm_A ad o)) (F0 m 121 ls [.int t0]) := by
  have hx := X.1
  have hb := X.2.1
  intro S M v3 v4 v6 v7 v8 v9 t0 hF
  intro H locs ls eS eM hl hH
  unfold fm_planned_121 at hF
  refine lv_istore (lv' := [(10, .int t0), (0, .ref o), (3, .int v3), (4, .int v4), (6, .int v6), (7, .int v7), (8, .int v8), (9, .int v9)]) hx hb dX6_planned_121 hl (by decide) rfl (fun ls hl => ?_)
  refine lv_iload hx hb dX6_planned_123 (lv_at hl 6 rfl) ?_
  refine lv_iload hx hb dX6_planned_125 (lv_at hl 0 rfl) ?_
  refine lv_iload hx hb dX6_planned_127 (lv_at hl 3 rfl) ?_
  refine lv_icmp_le (tgt := 136) hx hb dX6_planned_129 (by decide) (fun cd => ?_) (fun cd => ?_)
  · have hF := hF.1 cd
    refine lv_iconst (v := 2) hx hb dX6_planned_136 (by decide) ?_
    refine lv_iload hx hb dX6_planned_137 (lv_at hl 3 rfl) ?_
    refine lv_iload hx hb dX6_planned_139 (lv_at hl 0 rfl) ?_
    refine lv_isub hx hb dX6_planned_141 ?_
    refine lv_iload_n hx hb dX6_planned_142 rfl (lv_at hl 2 rfl) ?_
    obtain ⟨hI, hF⟩ := hF
    refine lv_idiv hx hb dX6_planned_143 hI ?_
    refine lv_iconst (v := 1) hx hb dX6_planned_144 (by decide) ?_
    refine lv_iadd hx hb dX6_planned_145 ?_
    refine lv_imul hx hb dX6_planned_146 ?_
    exact wm_planned_147 X hK102 S M v3 v4 v6 v7 v8 v9 v8 (2 * (((v4 - t0) / v3) + 1)) hF _ _ _ eS eM (lv_sub hl [1, 2, 3, 4, 5, 6, 7] rfl) hH
  · have hF := hF.2 cd
    refine lv_iconst (v := 0) hx hb dX6_planned_132 (by decide) ?_
    refine lv_goto (tgt := 147) hx hb dX6_planned_133 (by decide) ?_
    exact wm_planned_147 X hK102 S M v3 v4 v6 v7 v8 v9 v8 0 hF _ _ _ eS eM (lv_sub hl [1, 2, 3, 4, 5, 6, 7] rfl) hH
set_option maxHeartbeats 4000000 in
set_option maxRecDepth 100000 in
theorem wm_planned_102 {p : Program} {l : Launch} {e : Env} {s : State} {m : MethodId} {args : Array Value} {below : List Frame} {meth : Method} {c : Code} {D : va_G} {cI cZ : ClassId} {ad : Nat → Nat} {o : Nat} {Q : Int32 → Prop} {S0 : Nat → Int32} {M0 : Nat → Nat → Int32} (X : zm_Cx p s m args meth c cX6_planned 12 (some .int) D cI cZ ad o) :
    ∀ (n : Nat) (S : Nat → Int32) (M : Nat → Nat → Int32) (v3 : Int32) (v4 : Int32) (v6 : Int32) (v7 : Int32) (v8 : Int32) (v9 : Int32), fm_planned_102 Q n S M v3 v4 v6 v7 v8 v9 → ∀ (H : Heap) (locs : List Loc) (ls : Array Slot), S0 = S → M0 = M → lv_has ls 12 [(0, .ref o), (3, .int v3), (4, .int v4), (6, .int v6), (7, .int v7), (8, .int v8), (9, .int v9)] → zm_H D cI cZ ad o S M s H locs → W p l e (zm_R 2) s m args below meth c H locs 0 0 (MQ below (zm_QS (fun r S1 M1 => Q r ∧ S0 = S1 ∧ M0 = M1) D cI cZ ad o) args s 0 0 (zm_A ad o)) (F0 m 102 ls []) := by
  have hx := X.1
  have hb := X.2.1
  intro n
  induction n with
  | zero =>
    intro S M v3 v4 v6 v7 v8 v9 hF
    exact False.elim hF
  | succ n ih =>
    intro S M v3 v4 v6 v7 v8 v9 hF
    intro H locs ls eS eM hl hH
    unfold fm_planned_102 at hF
    refine lv_iload hx hb dX6_planned_102 (lv_at hl 5 rfl) ?_
    refine lv_if_lt (tgt := 196) hx hb dX6_planned_104 (by decide) (fun cd => ?_) (fun cd => ?_)
    · have hF := hF.1 cd
      refine lv_iload hx hb dX6_planned_196 (lv_at hl 4 rfl) ?_
      exact zm_iret X hH rfl rfl ⟨hF, eS, eM⟩ dX6_planned_198
    · have hF := hF.2 cd
      refine lv_iload hx hb dX6_planned_107 (lv_at hl 6 rfl) ?_
      refine lv_iload hx hb dX6_planned_109 (lv_at hl 3 rfl) ?_
      refine lv_icmp_le (tgt := 119) hx hb dX6_planned_111 (by decide) (fun cd => ?_) (fun cd => ?_)
      · have hF := hF.1 cd
        refine lv_iload hx hb dX6_planned_119 (lv_at hl 3 rfl) ?_
        exact wm_planned_121 X ih S M v3 v4 v6 v7 v8 v9 v6 hF _ _ _ eS eM (lv_sub hl [0, 1, 2, 3, 4, 5, 6] rfl) hH
      · have hF := hF.2 cd
        refine lv_iload hx hb dX6_planned_114 (lv_at hl 6 rfl) ?_
        refine lv_goto (tgt := 121) hx hb dX6_planned_116 (by decide) ?_
        exact wm_planned_121 X ih S M v3 v4 v6 v7 v8 v9 v9 hF _ _ _ eS eM (lv_sub hl [0, 1, 2, 3, 4, 5, 6] rfl) hH
set_option maxHeartbeats 4000000 in
set_option maxRecDepth 100000 in
theorem wm_planned_62 {p : Program} {l : Launch} {e : Env} {s : State} {m : MethodId} {args : Array Value} {below : List Frame} {meth : Method} {c : Code} {D : va_G} {cI cZ : ClassId} {ad : Nat → Nat} {o : Nat} {Q : Int32 → Prop} {S0 : Nat → Int32} {M0 : Nat → Nat → Int32} (X : zm_Cx p s m args meth c cX6_planned 12 (some .int) D cI cZ ad o) :
    ∀ (S : Nat → Int32) (M : Nat → Nat → Int32) (v3 : Int32) (v4 : Int32) (v5 : Int32), fm_planned_62 Q S M v3 v4 v5 → ∀ (H : Heap) (locs : List Loc) (ls : Array Slot), S0 = S → M0 = M → lv_has ls 12 [(0, .ref o), (3, .int v3), (4, .int v4), (5, .int v5)] → zm_H D cI cZ ad o S M s H locs → W p l e (zm_R 2) s m args below meth c H locs 0 0 (MQ below (zm_QS (fun r S1 M1 => Q r ∧ S0 = S1 ∧ M0 = M1) D cI cZ ad o) args s 0 0 (zm_A ad o)) (F0 m 62 ls []) := by
  have hx := X.1
  have hb := X.2.1
  intro S M v3 v4 v5 hF
  intro H locs ls eS eM hl hH
  unfold fm_planned_62 at hF
  refine lv_iload hx hb dX6_planned_62 (lv_at hl 3 rfl) ?_
  refine lv_iload hx hb dX6_planned_64 (lv_at hl 2 rfl) ?_
  refine lv_icmp_le (tgt := 73) hx hb dX6_planned_66 (by decide) (fun cd => ?_) (fun cd => ?_)
  · have hF := hF.1 cd
    refine lv_iload hx hb dX6_planned_73 (lv_at hl 2 rfl) ?_
    refine lv_iload hx hb dX6_planned_75 (lv_at hl 3 rfl) ?_
    refine lv_isub hx hb dX6_planned_77 ?_
    refine lv_iload_n hx hb dX6_planned_78 rfl (lv_at hl 1 rfl) ?_
    obtain ⟨hI, hF⟩ := hF
    refine lv_idiv hx hb dX6_planned_79 hI ?_
    refine lv_iconst (v := 1) hx hb dX6_planned_80 (by decide) ?_
    refine lv_iadd hx hb dX6_planned_81 ?_
    exact zm_iret X hH rfl rfl ⟨hF, eS, eM⟩ dX6_planned_82
  · have hF := hF.2 cd
    refine lv_iconst (v := 0) hx hb dX6_planned_69 (by decide) ?_
    refine lv_goto (tgt := 82) hx hb dX6_planned_70 (by decide) ?_
    exact zm_iret X hH rfl rfl ⟨hF, eS, eM⟩ dX6_planned_82
set_option maxHeartbeats 4000000 in
set_option maxRecDepth 100000 in
/-- planned: what the bytecode asks is what its run needs -/
theorem wm_planned (l : Launch) (D : va_G) (cI cZ : ClassId) (ad : Nat → Nat) (o : Nat) (hAd : zm_Ad ad o) (S : Nat → Int32) (M : Nat → Nat → Int32) (v1 : Int32) (v2 : Int32) (v3 : Int32) (v4 : Int32) (Q : Int32 → Prop) (hF : fm_planned S M v1 v2 v3 v4 Q) :
    zm_Mi l yX6_planned (ws_ yX6_planned cX6_planned 12 (some .int)) 2 D cI cZ ad o [.int v1, .int v2, .int v3, .int v4] S M (fun r S1 M1 => Q r ∧ S = S1 ∧ M = M1) := by
  refine zm_ofi rfl hAd (Nat.le_of_ble_eq_true rfl) ?_
  intro p e s m args below meth c H locs ls X hH hl
  have hx := X.1
  have hb := X.2.1
  have hl : lv_has ls 12 [(0, .ref o), (1, .int v1), (2, .int v2), (3, .int v3), (4, .int v4)] := hl
  unfold fm_planned at hF
  refine lv_aload_n hx hb dX6_planned_0 rfl (lv_at hl 0 rfl) ?_
  refine lv_iload_n hx hb dX6_planned_1 rfl (lv_at hl 1 rfl) ?_
  refine lv_iload_n hx hb dX6_planned_2 rfl (lv_at hl 2 rfl) ?_
  refine lv_iconst (v := 0) hx hb dX6_planned_3 (by decide) ?_
  refine zm_calli (As := [.int v1, .int v2, .int 0]) (rest := []) X hH (wm_openFrom l D cI cZ ad o X.2.2.2.2.2.2.2.2 S M v1 v2 0 _ hF) (cwV 3 X.2.2.2.2.1 (lw_V q2157 q2159 qs79 q95 q2160) rfl rfl rfl (by decide +kernel) ⟨Nat.le_of_ble_eq_true rfl, Nat.le_of_ble_eq_true rfl⟩) rfl hl.1 rfl (Nat.le_of_ble_eq_true rfl) dX6_planned_4 (Nat.le_refl 0) (Nat.le_refl 0) (fun r3 S1 M2 H locs hF hH => ?_)
  obtain ⟨hF, e9, e8⟩ := hF; subst e9; subst e8
  refine lv_istore (lv' := [(5, .int r3), (0, .ref o), (1, .int v1), (2, .int v2), (3, .int v3), (4, .int v4)]) hx hb dX6_planned_7 hl (by decide) rfl (fun ls hl => ?_)
  refine lv_aload_n hx hb dX6_planned_9 rfl (lv_at hl 1 rfl) ?_
  refine zm_getf X hH 10 (by decide) rfl q1723 dX6_planned_10 ?_
  refine lv_iload_n hx hb dX6_planned_13 rfl (lv_at hl 2 rfl) ?_
  obtain ⟨hI, hF⟩ := hF
  refine zm_iald X hH 10 (by decide) rfl (n := 150) rfl hI dX6_planned_14 ?_
  refine lv_iconst (v := 4) hx hb dX6_planned_15 (by decide) ?_
  refine lv_icmp_ne (tgt := 41) hx hb dX6_planned_16 (by decide) (fun cd => ?_) (fun cd => ?_)
  · have hF := hF.1 cd
    refine lv_aload_n hx hb dX6_planned_41 rfl (lv_at hl 1 rfl) ?_
    refine zm_getf X hH 10 (by decide) rfl q1723 dX6_planned_42 ?_
    refine lv_iload_n hx hb dX6_planned_45 rfl (lv_at hl 2 rfl) ?_
    obtain ⟨hI, hF⟩ := hF
    refine zm_iald X hH 10 (by decide) rfl (n := 150) rfl hI dX6_planned_46 ?_
    refine lv_iconst (v := 1) hx hb dX6_planned_47 (by decide) ?_
    refine lv_icmp_eq (tgt := 62) hx hb dX6_planned_48 (by decide) (fun cd => ?_) (fun cd => ?_)
    · have hF := hF.1 cd
      exact wm_planned_62 X S M v3 v4 r3 hF _ _ _ rfl rfl (lv_sub hl [1, 4, 5, 0] rfl) hH
    · have hF := hF.2 cd
      refine lv_aload_n hx hb dX6_planned_51 rfl (lv_at hl 1 rfl) ?_
      refine zm_getf X hH 10 (by decide) rfl q1723 dX6_planned_52 ?_
      refine lv_iload_n hx hb dX6_planned_55 rfl (lv_at hl 2 rfl) ?_
      obtain ⟨hI, hF⟩ := hF
      refine zm_iald X hH 10 (by decide) rfl (n := 150) rfl hI dX6_planned_56 ?_
      refine lv_bipush (v := 6) hx hb dX6_planned_57 (by decide) ?_
      refine lv_icmp_ne (tgt := 83) hx hb dX6_planned_59 (by decide) (fun cd => ?_) (fun cd => ?_)
      · have hF := hF.1 cd
        refine lv_aload_n hx hb dX6_planned_83 rfl (lv_at hl 1 rfl) ?_
        refine lv_iload_n hx hb dX6_planned_84 rfl (lv_at hl 2 rfl) ?_
        refine lv_iload_n hx hb dX6_planned_85 rfl (lv_at hl 3 rfl) ?_
        refine lv_iconst (v := 1) hx hb dX6_planned_86 (by decide) ?_
        refine zm_calli (As := [.int v1, .int v2, .int 1]) (rest := []) X hH (wm_openFrom l D cI cZ ad o X.2.2.2.2.2.2.2.2 S M v1 v2 1 _ hF) (cwV 3 X.2.2.2.2.1 (lw_V q2157 q2159 qs79 q95 q2160) rfl rfl rfl (by decide +kernel) ⟨Nat.le_of_ble_eq_true rfl, Nat.le_of_ble_eq_true rfl⟩) rfl hl.1 rfl (Nat.le_of_ble_eq_true rfl) dX6_planned_87 (Nat.le_refl 0) (Nat.le_refl 0) (fun r6 S4 M5 H locs hF hH => ?_)
        obtain ⟨hF, e9, e8⟩ := hF; subst e9; subst e8
        refine lv_istore (lv' := [(6, .int r6), (5, .int r3), (0, .ref o), (1, .int v1), (2, .int v2), (3, .int v3), (4, .int v4)]) hx hb dX6_planned_90 hl (by decide) rfl (fun ls hl => ?_)
        refine lv_iconst (v := 0) hx hb dX6_planned_92 (by decide) ?_
        refine lv_istore (lv' := [(7, .int 0), (6, .int r6), (5, .int r3), (0, .ref o), (1, .int v1), (2, .int v2), (3, .int v3), (4, .int v4)]) hx hb dX6_planned_93 hl (by decide) rfl (fun ls hl => ?_)
        refine lv_iconst (v := 0) hx hb dX6_planned_95 (by decide) ?_
        refine lv_istore (lv' := [(8, .int 0), (7, .int 0), (6, .int r6), (5, .int r3), (0, .ref o), (1, .int v1), (2, .int v2), (3, .int v3), (4, .int v4)]) hx hb dX6_planned_96 hl (by decide) rfl (fun ls hl => ?_)
        refine lv_iload hx hb dX6_planned_98 (lv_at hl 3 rfl) ?_
        refine lv_istore (lv' := [(9, .int r3), (8, .int 0), (7, .int 0), (6, .int r6), (5, .int r3), (0, .ref o), (1, .int v1), (2, .int v2), (3, .int v3), (4, .int v4)]) hx hb dX6_planned_100 hl (by decide) rfl (fun ls hl => ?_)
        obtain ⟨n9, hF⟩ := hF
        exact wm_planned_102 X n9 S M v3 v4 r6 0 0 r3 hF _ _ _ rfl rfl (lv_sub hl [5, 8, 9, 3, 2, 1, 0] rfl) hH
      · have hF := hF.2 cd
        exact wm_planned_62 X S M v3 v4 r3 hF _ _ _ rfl rfl (lv_sub hl [1, 4, 5, 0] rfl) hH
  · have hF := hF.2 cd
    refine lv_aload_n hx hb dX6_planned_19 rfl (lv_at hl 1 rfl) ?_
    refine zm_getf X hH 24 (by decide) rfl q1737 dX6_planned_20 ?_
    refine lv_bipush (v := 8) hx hb dX6_planned_23 (by decide) ?_
    refine lv_iload_n hx hb dX6_planned_25 rfl (lv_at hl 2 rfl) ?_
    refine lv_imul hx hb dX6_planned_26 ?_
    refine lv_iconst (v := 2) hx hb dX6_planned_27 (by decide) ?_
    refine lv_iload_n hx hb dX6_planned_28 rfl (lv_at hl 3 rfl) ?_
    refine lv_imul hx hb dX6_planned_29 ?_
    refine lv_iadd hx hb dX6_planned_30 ?_
    obtain ⟨hI, hF⟩ := hF
    refine zm_iald X hH 24 (by decide) rfl (n := 1200) rfl hI dX6_planned_31 ?_
    refine lv_if_ge (tgt := 39) hx hb dX6_planned_32 (by decide) (fun cd => ?_) (fun cd => ?_)
    · have hF := hF.1 cd
      refine lv_iconst (v := 0) hx hb dX6_planned_39 (by decide) ?_
      exact zm_iret X hH rfl rfl ⟨hF, rfl, rfl⟩ dX6_planned_40
    · have hF := hF.2 cd
      refine lv_iconst (v := 1) hx hb dX6_planned_35 (by decide) ?_
      refine lv_goto (tgt := 40) hx hb dX6_planned_36 (by decide) ?_
      exact zm_iret X hH rfl rfl ⟨hF, rfl, rfl⟩ dX6_planned_40
set_option maxHeartbeats 4000000 in
set_option maxRecDepth 100000 in
theorem wm_plan_101 {p : Program} {l : Launch} {e : Env} {s : State} {m : MethodId} {args : Array Value} {below : List Frame} {meth : Method} {c : Code} {D : va_G} {cI cZ : ClassId} {ad : Nat → Nat} {o : Nat} {Q : Int32 → (Nat → Int32) → (Nat → Nat → Int32) → Prop} (X : zm_Cx p s m args meth c cX6_plan 6 (some .int) D cI cZ ad o) :
    ∀ (n : Nat) (S : Nat → Int32) (M : Nat → Nat → Int32) (v1 : Int32) (v2 : Int32) (v3 : Int32) (v4 : Int32) (v5 : Int32), fm_plan_101 Q n S M v1 v2 v3 v4 v5 → ∀ (H : Heap) (locs : List Loc) (ls : Array Slot), lv_has ls 6 [(0, .ref o), (1, .int v1), (2, .int v2), (3, .int v3), (4, .int v4), (5, .int v5)] → zm_H D cI cZ ad o S M s H locs → W p l e (zm_R 3) s m args below meth c H locs 0 0 (MQ below (zm_QS Q D cI cZ ad o) args s 0 0 (zm_A ad o)) (F0 m 101 ls []) := by
  have hx := X.1
  have hb := X.2.1
  intro n
  induction n with
  | zero =>
    intro S M v1 v2 v3 v4 v5 hF
    exact False.elim hF
  | succ n ih =>
    intro S M v1 v2 v3 v4 v5 hF
    intro H locs ls hl hH
    unfold fm_plan_101 at hF
    refine lv_iload hx hb dX6_plan_101 (lv_at hl 5 rfl) ?_
    refine lv_aload_n hx hb dX6_plan_103 rfl (lv_at hl 0 rfl) ?_
    refine lv_iload_n hx hb dX6_plan_104 rfl (lv_at hl 1 rfl) ?_
    refine zm_calli (As := [.int v1]) (rest := [.int v5]) X hH (wm_columns l D cI cZ ad o X.2.2.2.2.2.2.2.2 S M v1 _ hF) (cwV 1 X.2.2.2.2.1 (lw_V q2015 q2017 qs63 q95 q2018) rfl rfl rfl (by decide +kernel) ⟨Nat.le_of_ble_eq_true rfl, Nat.le_of_ble_eq_true rfl⟩) rfl hl.1 rfl (Nat.le_of_ble_eq_true rfl) dX6_plan_105 (Nat.le_refl 0) (Nat.le_refl 0) (fun r3 S1 M2 H locs hF hH => ?_)
    obtain ⟨hF, e9, e8⟩ := hF; subst e9; subst e8
    refine lv_icmp_ge (tgt := 149) hx hb dX6_plan_108 (by decide) (fun cd => ?_) (fun cd => ?_)
    · have hF := hF.1 cd
      refine lv_iload hx hb dX6_plan_149 (lv_at hl 4 rfl) ?_
      exact zm_iret X hH rfl rfl hF dX6_plan_151
    · have hF := hF.2 cd
      refine lv_iload hx hb dX6_plan_111 (lv_at hl 4 rfl) ?_
      refine lv_aload_n hx hb dX6_plan_113 rfl (lv_at hl 0 rfl) ?_
      refine lv_iload_n hx hb dX6_plan_114 rfl (lv_at hl 1 rfl) ?_
      refine lv_iload hx hb dX6_plan_115 (lv_at hl 5 rfl) ?_
      refine lv_sipush (v := 365) hx hb dX6_plan_117 (by decide) ?_
      refine lv_aload_n hx hb dX6_plan_120 rfl (lv_at hl 0 rfl) ?_
      refine lv_iload_n hx hb dX6_plan_121 rfl (lv_at hl 2 rfl) ?_
      refine lv_iload_n hx hb dX6_plan_122 rfl (lv_at hl 1 rfl) ?_
      refine zm_calli (As := [.int v2, .int v1]) (rest := [.int 365, .int v5, .int v1, .ref o, .int v4]) X hH (wm_yearsOf l D cI cZ ad o X.2.2.2.2.2.2.2.2 S M v2 v1 _ hF) (cwV 2 X.2.2.2.2.1 (lw_V q2035 q2037 qs68 q95 q2038) rfl rfl rfl (by decide +kernel) ⟨Nat.le_of_ble_eq_true rfl, Nat.le_of_ble_eq_true rfl⟩) rfl hl.1 rfl (Nat.le_of_ble_eq_true rfl) dX6_plan_123 (Nat.le_refl 0) (Nat.le_refl 0) (fun r6 S4 M5 H locs hF hH => ?_)
      obtain ⟨hF, e9, e8⟩ := hF; subst e9; subst e8
      refine lv_imul hx hb dX6_plan_126 ?_
      refine lv_aload_n hx hb dX6_plan_127 rfl (lv_at hl 0 rfl) ?_
      refine zm_getf X hH 1 (by decide) rfl q1714 dX6_plan_128 ?_
      refine lv_sipush (v := 365) hx hb dX6_plan_131 (by decide) ?_
      refine lv_iload_n hx hb dX6_plan_134 rfl (lv_at hl 3 rfl) ?_
      refine lv_imul hx hb dX6_plan_135 ?_
      refine lv_iadd hx hb dX6_plan_136 ?_
      refine zm_calli (As := [.int v1, .int v5, .int (365 * r6), .int ((S 1) + (365 * v3))]) (rest := [.int v4]) X hH (wm_planned l D cI cZ ad o X.2.2.2.2.2.2.2.2 S M v1 v5 (365 * r6) ((S 1) + (365 * v3)) _ hF) (cwV 4 X.2.2.2.2.1 (lw_V q2153 q2155 qs78 q95 q2156) rfl rfl rfl (by decide +kernel) ⟨Nat.le_of_ble_eq_true rfl, Nat.le_of_ble_eq_true rfl⟩) rfl hl.1 rfl (Nat.le_of_ble_eq_true rfl) dX6_plan_137 (Nat.le_refl 0) (Nat.le_refl 0) (fun r9 S7 M8 H locs hF hH => ?_)
      obtain ⟨hF, e9, e8⟩ := hF; subst e9; subst e8
      refine lv_iadd hx hb dX6_plan_140 ?_
      refine lv_topi (fun x10 ex10 => ?_)
      have hF := hF x10 ex10
      refine lv_istore (lv' := [(4, .int x10), (0, .ref o), (1, .int v1), (2, .int v2), (3, .int v3), (5, .int v5)]) hx hb dX6_plan_141 hl (by decide) rfl (fun ls hl => ?_)
      obtain ⟨x11, ex11⟩ : ∃ z : Int32, z = v5 + 1 := ⟨_, rfl⟩
      have hF := hF x11 ex11
      refine lv_iinc (v := x11) (lv' := [(5, .int x11), (4, .int x10), (0, .ref o), (1, .int v1), (2, .int v2), (3, .int v3)]) hx hb dX6_plan_143 hl (k := 5) rfl (by rw [ex11]; rfl) (by decide) rfl (fun ls hl => ?_)
      refine lv_goto (tgt := 101) hx hb dX6_plan_146 (by decide) ?_
      exact ih S M v1 v2 v3 x10 x11 hF _ _ _ (lv_sub hl [2, 3, 4, 5, 1, 0] rfl) hH
set_option maxHeartbeats 4000000 in
set_option maxRecDepth 100000 in
/-- plan: what the bytecode asks is what its run needs -/
theorem wm_plan (l : Launch) (D : va_G) (cI cZ : ClassId) (ad : Nat → Nat) (o : Nat) (hAd : zm_Ad ad o) (S : Nat → Int32) (M : Nat → Nat → Int32) (v1 : Int32) (v2 : Int32) (v3 : Int32) (Q : Int32 → (Nat → Int32) → (Nat → Nat → Int32) → Prop) (hF : fm_plan S M v1 v2 v3 Q) :
    zm_Mi l yX6_plan (ws_ yX6_plan cX6_plan 6 (some .int)) 3 D cI cZ ad o [.int v1, .int v2, .int v3] S M Q := by
  refine zm_ofi rfl hAd (Nat.le_of_ble_eq_true rfl) ?_
  intro p e s m args below meth c H locs ls X hH hl
  have hx := X.1
  have hb := X.2.1
  have hl : lv_has ls 6 [(0, .ref o), (1, .int v1), (2, .int v2), (3, .int v3)] := hl
  unfold fm_plan at hF
  refine lv_aload_n hx hb dX6_plan_0 rfl (lv_at hl 0 rfl) ?_
  refine lv_iconst (v := 0) hx hb dX6_plan_1 (by decide) ?_
  refine zm_puti X hH 0 (by decide) rfl rfl (by decide +kernel) q1713 dX6_plan_2 (fun S1 H locs eS1 hH => ?_)
  have hF := hF S1 eS1
  refine lv_aload_n hx hb dX6_plan_5 rfl (lv_at hl 0 rfl) ?_
  refine lv_iload_n hx hb dX6_plan_6 rfl (lv_at hl 1 rfl) ?_
  refine zm_calli (As := [.int v1]) (rest := []) X hH (wm_isGrave l D cI cZ ad o X.2.2.2.2.2.2.2.2 S1 M v1 _ hF) (cwV 1 X.2.2.2.2.1 (lw_V q1953 q1955 qs48 q95 q1956) rfl rfl rfl (by decide +kernel) ⟨Nat.le_of_ble_eq_true rfl, Nat.le_of_ble_eq_true rfl⟩) rfl hl.1 rfl (Nat.le_of_ble_eq_true rfl) dX6_plan_7 (Nat.le_refl 0) (Nat.le_refl 0) (fun r4 S2 M3 H locs hF hH => ?_)
  obtain ⟨hF, e9, e8⟩ := hF; subst e9; subst e8
  refine lv_if_eq (tgt := 42) hx hb dX6_plan_10 (by decide) (fun cd => ?_) (fun cd => ?_)
  · have hF := hF.1 cd
    refine lv_iconst (v := (-1)) hx hb dX6_plan_42 (by decide) ?_
    exact zm_iret X hH rfl rfl hF dX6_plan_43
  · have hF := hF.2 cd
    refine lv_aload_n hx hb dX6_plan_13 rfl (lv_at hl 0 rfl) ?_
    refine zm_getf X hH 11 (by decide) rfl q1724 dX6_plan_14 ?_
    refine lv_iload_n hx hb dX6_plan_17 rfl (lv_at hl 1 rfl) ?_
    obtain ⟨hI, hF⟩ := hF
    refine zm_iald X hH 11 (by decide) rfl (n := 150) rfl hI dX6_plan_18 ?_
    refine lv_iconst (v := 4) hx hb dX6_plan_19 (by decide) ?_
    refine lv_icmp_eq (tgt := 42) hx hb dX6_plan_20 (by decide) (fun cd => ?_) (fun cd => ?_)
    · have hF := hF.1 cd
      refine lv_iconst (v := (-1)) hx hb dX6_plan_42 (by decide) ?_
      exact zm_iret X hH rfl rfl hF dX6_plan_43
    · have hF := hF.2 cd
      refine lv_iload_n hx hb dX6_plan_23 rfl (lv_at hl 2 rfl) ?_
      refine lv_if_lt (tgt := 42) hx hb dX6_plan_24 (by decide) (fun cd => ?_) (fun cd => ?_)
      · have hF := hF.1 cd
        refine lv_iconst (v := (-1)) hx hb dX6_plan_42 (by decide) ?_
        exact zm_iret X hH rfl rfl hF dX6_plan_43
      · have hF := hF.2 cd
        refine lv_iload_n hx hb dX6_plan_27 rfl (lv_at hl 2 rfl) ?_
        refine lv_iconst (v := 2) hx hb dX6_plan_28 (by decide) ?_
        refine lv_icmp_gt (tgt := 42) hx hb dX6_plan_29 (by decide) (fun cd => ?_) (fun cd => ?_)
        · have hF := hF.1 cd
          refine lv_iconst (v := (-1)) hx hb dX6_plan_42 (by decide) ?_
          exact zm_iret X hH rfl rfl hF dX6_plan_43
        · have hF := hF.2 cd
          refine lv_iload_n hx hb dX6_plan_32 rfl (lv_at hl 3 rfl) ?_
          refine lv_if_lt (tgt := 42) hx hb dX6_plan_33 (by decide) (fun cd => ?_) (fun cd => ?_)
          · have hF := hF.1 cd
            refine lv_iconst (v := (-1)) hx hb dX6_plan_42 (by decide) ?_
            exact zm_iret X hH rfl rfl hF dX6_plan_43
          · have hF := hF.2 cd
            refine lv_iload_n hx hb dX6_plan_36 rfl (lv_at hl 3 rfl) ?_
            refine lv_bipush (v := 100) hx hb dX6_plan_37 (by decide) ?_
            refine lv_icmp_le (tgt := 44) hx hb dX6_plan_39 (by decide) (fun cd => ?_) (fun cd => ?_)
            · have hF := hF.1 cd
              refine lv_aload_n hx hb dX6_plan_44 rfl (lv_at hl 0 rfl) ?_
              refine lv_iload_n hx hb dX6_plan_45 rfl (lv_at hl 1 rfl) ?_
              refine lv_iload_n hx hb dX6_plan_46 rfl (lv_at hl 2 rfl) ?_
              refine zm_calli (As := [.int v1, .int v2]) (rest := []) X hH (wm_takesKind l D cI cZ ad o X.2.2.2.2.2.2.2.2 S1 M v1 v2 _ hF) (cwV 2 X.2.2.2.2.1 (lw_V q2019 q2021 qs64 q95 q2022) rfl rfl rfl (by decide +kernel) ⟨Nat.le_of_ble_eq_true rfl, Nat.le_of_ble_eq_true rfl⟩) rfl hl.1 rfl (Nat.le_of_ble_eq_true rfl) dX6_plan_47 (Nat.le_refl 0) (Nat.le_refl 0) (fun r7 S5 M6 H locs hF hH => ?_)
              obtain ⟨hF, e9, e8⟩ := hF; subst e9; subst e8
              refine lv_if_eq (tgt := 73) hx hb dX6_plan_50 (by decide) (fun cd => ?_) (fun cd => ?_)
              · have hF := hF.1 cd
                refine lv_iconst (v := 0) hx hb dX6_plan_73 (by decide) ?_
                exact zm_iret X hH rfl rfl hF dX6_plan_74
              · have hF := hF.2 cd
                refine lv_aload_n hx hb dX6_plan_53 rfl (lv_at hl 0 rfl) ?_
                refine zm_getf X hH 11 (by decide) rfl q1724 dX6_plan_54 ?_
                refine lv_iload_n hx hb dX6_plan_57 rfl (lv_at hl 1 rfl) ?_
                obtain ⟨hI, hF⟩ := hF
                refine zm_iald X hH 11 (by decide) rfl (n := 150) rfl hI dX6_plan_58 ?_
                refine lv_iconst (v := 3) hx hb dX6_plan_59 (by decide) ?_
                refine lv_icmp_eq (tgt := 73) hx hb dX6_plan_60 (by decide) (fun cd => ?_) (fun cd => ?_)
                · have hF := hF.1 cd
                  refine lv_iconst (v := 0) hx hb dX6_plan_73 (by decide) ?_
                  exact zm_iret X hH rfl rfl hF dX6_plan_74
                · have hF := hF.2 cd
                  refine lv_aload_n hx hb dX6_plan_63 rfl (lv_at hl 0 rfl) ?_
                  refine zm_getf X hH 11 (by decide) rfl q1724 dX6_plan_64 ?_
                  refine lv_iload_n hx hb dX6_plan_67 rfl (lv_at hl 1 rfl) ?_
                  obtain ⟨hI, hF⟩ := hF
                  refine zm_iald X hH 11 (by decide) rfl (n := 150) rfl hI dX6_plan_68 ?_
                  refine lv_iconst (v := 2) hx hb dX6_plan_69 (by decide) ?_
                  refine lv_icmp_ne (tgt := 75) hx hb dX6_plan_70 (by decide) (fun cd => ?_) (fun cd => ?_)
                  · have hF := hF.1 cd
                    refine lv_aload_n hx hb dX6_plan_75 rfl (lv_at hl 0 rfl) ?_
                    refine zm_getf X hH 10 (by decide) rfl q1723 dX6_plan_76 ?_
                    refine lv_iload_n hx hb dX6_plan_79 rfl (lv_at hl 1 rfl) ?_
                    obtain ⟨hI, hF⟩ := hF
                    refine zm_iald X hH 10 (by decide) rfl (n := 150) rfl hI dX6_plan_80 ?_
                    refine lv_iconst (v := 5) hx hb dX6_plan_81 (by decide) ?_
                    refine lv_icmp_ne (tgt := 95) hx hb dX6_plan_82 (by decide) (fun cd => ?_) (fun cd => ?_)
                    · have hF := hF.1 cd
                      refine lv_iconst (v := 0) hx hb dX6_plan_95 (by decide) ?_
                      refine lv_istore (lv' := [(4, .int 0), (0, .ref o), (1, .int v1), (2, .int v2), (3, .int v3)]) hx hb dX6_plan_96 hl (by decide) rfl (fun ls hl => ?_)
                      refine lv_iconst (v := 0) hx hb dX6_plan_98 (by decide) ?_
                      refine lv_istore (lv' := [(5, .int 0), (4, .int 0), (0, .ref o), (1, .int v1), (2, .int v2), (3, .int v3)]) hx hb dX6_plan_99 hl (by decide) rfl (fun ls hl => ?_)
                      obtain ⟨n9, hF⟩ := hF
                      exact wm_plan_101 X n9 S1 M v1 v2 v3 0 0 hF _ _ _ (lv_sub hl [2, 3, 4, 5, 1, 0] rfl) hH
                    · have hF := hF.2 cd
                      refine lv_bipush (v := 40) hx hb dX6_plan_85 (by decide) ?_
                      refine lv_aload_n hx hb dX6_plan_87 rfl (lv_at hl 0 rfl) ?_
                      refine zm_getf X hH 26 (by decide) rfl q1739 dX6_plan_88 ?_
                      refine lv_iload_n hx hb dX6_plan_91 rfl (lv_at hl 1 rfl) ?_
                      obtain ⟨hI, hF⟩ := hF
                      refine zm_iald X hH 26 (by decide) rfl (n := 150) rfl hI dX6_plan_92 ?_
                      refine lv_isub hx hb dX6_plan_93 ?_
                      exact zm_iret X hH rfl rfl hF dX6_plan_94
                  · have hF := hF.2 cd
                    refine lv_iconst (v := 0) hx hb dX6_plan_73 (by decide) ?_
                    exact zm_iret X hH rfl rfl hF dX6_plan_74
            · have hF := hF.2 cd
              refine lv_iconst (v := (-1)) hx hb dX6_plan_42 (by decide) ?_
              exact zm_iret X hH rfl rfl hF dX6_plan_43
set_option maxHeartbeats 4000000 in
set_option maxRecDepth 100000 in
theorem wm_free_125 {p : Program} {l : Launch} {e : Env} {s : State} {m : MethodId} {args : Array Value} {below : List Frame} {meth : Method} {c : Code} {D : va_G} {cI cZ : ClassId} {ad : Nat → Nat} {o : Nat} {Q : Int32 → (Nat → Int32) → (Nat → Nat → Int32) → Prop} {K37 : (Nat → Int32) → (Nat → Nat → Int32) → Int32 → Int32 → Int32 → Int32 → Int32 → Prop} {K49 : (Nat → Int32) → (Nat → Nat → Int32) → Int32 → Int32 → Int32 → Int32 → Int32 → Int32 → Prop} {K64 : (Nat → Int32) → (Nat → Nat → Int32) → Int32 → Int32 → Int32 → Int32 → Int32 → Int32 → Int32 → Prop} (X : zm_Cx p s m args meth c cX6_free 8 (some .int) D cI cZ ad o) (hK37 : ∀ (S : Nat → Int32) (M : Nat → Nat → Int32) (v1 : Int32) (v2 : Int32) (v3 : Int32) (v4 : Int32) (v5 : Int32), K37 S M v1 v2 v3 v4 v5 → ∀ (H : Heap) (locs : List Loc) (ls : Array Slot), lv_has ls 8 [(0, .ref o), (1, .int v1), (2, .int v2), (3, .int v3), (4, .int v4), (5, .int v5)] → zm_H D cI cZ ad o S M s H locs → W p l e (zm_R 2) s m args below meth c H locs 0 0 (MQ below (zm_QS Q D cI cZ ad o) args s 0 0 (zm_A ad o)) (F0 m 37 ls [])) (hK49 : ∀ (S : Nat → Int32) (M : Nat → Nat → Int32) (v1 : Int32) (v2 : Int32) (v3 : Int32) (v4 : Int32) (v5 : Int32) (v6 : Int32), K49 S M v1 v2 v3 v4 v5 v6 → ∀ (H : Heap) (locs : List Loc) (ls : Array Slot), lv_has ls 8 [(0, .ref o), (1, .int v1), (2, .int v2), (3, .int v3), (4, .int v4), (5, .int v5), (6, .int v6)] → zm_H D cI cZ ad o S M s H locs → W p l e (zm_R 2) s m args below meth c H locs 0 0 (MQ below (zm_QS Q D cI cZ ad o) args s 0 0 (zm_A ad o)) (F0 m 49 ls [])) (hK64 : ∀ (S : Nat → Int32) (M : Nat → Nat → Int32) (v1 : Int32) (v2 : Int32) (v3 : Int32) (v4 : Int32) (v5 : Int32) (v6 : Int32) (v7 : Int32), K64 S M v1 v2 v3 v4 v5 v6 v7 → ∀ (H : Heap) (locs : List Loc) (ls : Array Slot), lv_has ls 8 [(0, .ref o), (1, .int v1), (2, .int v2), (3, .int v3), (4, .int v4), (5, .int v5), (6, .int v6), (7, .int v7)] → zm_H D cI cZ ad o S M s H locs → W p l e (zm_R 2) s m args below meth c H locs 0 0 (MQ below (zm_QS Q D cI cZ ad o) args s 0 0 (zm_A ad o)) (F0 m 64 ls [])) :
    ∀ (S : Nat → Int32) (M : Nat → Nat → Int32) (v1 : Int32) (v2 : Int32) (v3 : Int32) (v4 : Int32) (v5 : Int32) (v6 : Int32) (v7 : Int32), fm_free_125 Q K37 K49 K64 S M v1 v2 v3 v4 v5 v6 v7 → ∀ (H : Heap) (locs : List Loc) (ls : Array Slot), lv_has ls 8 [(0, .ref o), (1, .int v1), (2, .int v2), (3, .int v3), (4, .int v4), (5, .int v5), (6, .int v6), (7, .int v7)] → zm_H D cI cZ ad o S M s H locs → W p l e (zm_R 2) s m args below meth c H locs 0 0 (MQ below (zm_QS Q D cI cZ ad o) args s 0 0 (zm_A ad o)) (F0 m 125 ls []) := by
  have hx := X.1
  have hb := X.2.1
  intro S M v1 v2 v3 v4 v5 v6 v7 hF
  intro H locs ls hl hH
  unfold fm_free_125 at hF
  obtain ⟨x1, ex1⟩ : ∃ z : Int32, z = v7 + 1 := ⟨_, rfl⟩
  have hF := hF x1 ex1
  refine lv_iinc (v := x1) (lv' := [(7, .int x1), (0, .ref o), (1, .int v1), (2, .int v2), (3, .int v3), (4, .int v4), (5, .int v5), (6, .int v6)]) hx hb dX6_free_125 hl (k := 7) rfl (by rw [ex1]; rfl) (by decide) rfl (fun ls hl => ?_)
  refine lv_goto (tgt := 64) hx hb dX6_free_128 (by decide) ?_
  exact hK64 S M v1 v2 v3 v4 v5 v6 x1 hF _ _ _ (lv_sub hl [1, 2, 3, 4, 5, 6, 7, 0] rfl) hH
set_option maxHeartbeats 4000000 in
set_option maxRecDepth 100000 in
theorem wm_free_64 {p : Program} {l : Launch} {e : Env} {s : State} {m : MethodId} {args : Array Value} {below : List Frame} {meth : Method} {c : Code} {D : va_G} {cI cZ : ClassId} {ad : Nat → Nat} {o : Nat} {Q : Int32 → (Nat → Int32) → (Nat → Nat → Int32) → Prop} {K37 : (Nat → Int32) → (Nat → Nat → Int32) → Int32 → Int32 → Int32 → Int32 → Int32 → Prop} {K49 : (Nat → Int32) → (Nat → Nat → Int32) → Int32 → Int32 → Int32 → Int32 → Int32 → Int32 → Prop} (X : zm_Cx p s m args meth c cX6_free 8 (some .int) D cI cZ ad o) (hK37 : ∀ (S : Nat → Int32) (M : Nat → Nat → Int32) (v1 : Int32) (v2 : Int32) (v3 : Int32) (v4 : Int32) (v5 : Int32), K37 S M v1 v2 v3 v4 v5 → ∀ (H : Heap) (locs : List Loc) (ls : Array Slot), lv_has ls 8 [(0, .ref o), (1, .int v1), (2, .int v2), (3, .int v3), (4, .int v4), (5, .int v5)] → zm_H D cI cZ ad o S M s H locs → W p l e (zm_R 2) s m args below meth c H locs 0 0 (MQ below (zm_QS Q D cI cZ ad o) args s 0 0 (zm_A ad o)) (F0 m 37 ls [])) (hK49 : ∀ (S : Nat → Int32) (M : Nat → Nat → Int32) (v1 : Int32) (v2 : Int32) (v3 : Int32) (v4 : Int32) (v5 : Int32) (v6 : Int32), K49 S M v1 v2 v3 v4 v5 v6 → ∀ (H : Heap) (locs : List Loc) (ls : Array Slot), lv_has ls 8 [(0, .ref o), (1, .int v1), (2, .int v2), (3, .int v3), (4, .int v4), (5, .int v5), (6, .int v6)] → zm_H D cI cZ ad o S M s H locs → W p l e (zm_R 2) s m args below meth c H locs 0 0 (MQ below (zm_QS Q D cI cZ ad o) args s 0 0 (zm_A ad o)) (F0 m 49 ls [])) :
    ∀ (n : Nat) (S : Nat → Int32) (M : Nat → Nat → Int32) (v1 : Int32) (v2 : Int32) (v3 : Int32) (v4 : Int32) (v5 : Int32) (v6 : Int32) (v7 : Int32), fm_free_64 Q K37 K49 n S M v1 v2 v3 v4 v5 v6 v7 → ∀ (H : Heap) (locs : List Loc) (ls : Array Slot), lv_has ls 8 [(0, .ref o), (1, .int v1), (2, .int v2), (3, .int v3), (4, .int v4), (5, .int v5), (6, .int v6), (7, .int v7)] → zm_H D cI cZ ad o S M s H locs → W p l e (zm_R 2) s m args below meth c H locs 0 0 (MQ below (zm_QS Q D cI cZ ad o) args s 0 0 (zm_A ad o)) (F0 m 64 ls []) := by
  have hx := X.1
  have hb := X.2.1
  intro n
  induction n with
  | zero =>
    intro S M v1 v2 v3 v4 v5 v6 v7 hF
    exact False.elim hF
  | succ n ih =>
    intro S M v1 v2 v3 v4 v5 v6 v7 hF
    intro H locs ls hl hH
    unfold fm_free_64 at hF
    refine lv_iload hx hb dX6_free_64 (lv_at hl 7 rfl) ?_
    refine lv_aload_n hx hb dX6_free_66 rfl (lv_at hl 0 rfl) ?_
    refine zm_getf X hH 6 (by decide) rfl q1719 dX6_free_67 ?_
    refine lv_bipush (v := 12) hx hb dX6_free_70 (by decide) ?_
    refine lv_iload hx hb dX6_free_72 (lv_at hl 5 rfl) ?_
    refine lv_imul hx hb dX6_free_74 ?_
    refine lv_iload hx hb dX6_free_75 (lv_at hl 6 rfl) ?_
    refine lv_iadd hx hb dX6_free_77 ?_
    obtain ⟨hI, hF⟩ := hF
    refine zm_iald X hH 6 (by decide) rfl (n := 96) rfl hI dX6_free_78 ?_
    refine lv_icmp_ge (tgt := 131) hx hb dX6_free_79 (by decide) (fun cd => ?_) (fun cd => ?_)
    · have hF := hF.1 cd
      obtain ⟨x1, ex1⟩ : ∃ z : Int32, z = v6 + 1 := ⟨_, rfl⟩
      have hF := hF x1 ex1
      refine lv_iinc (v := x1) (lv' := [(6, .int x1), (0, .ref o), (1, .int v1), (2, .int v2), (3, .int v3), (4, .int v4), (5, .int v5), (7, .int v7)]) hx hb dX6_free_131 hl (k := 6) rfl (by rw [ex1]; rfl) (by decide) rfl (fun ls hl => ?_)
      refine lv_goto (tgt := 49) hx hb dX6_free_134 (by decide) ?_
      exact hK49 S M v1 v2 v3 v4 v5 x1 hF _ _ _ (lv_sub hl [1, 2, 3, 4, 5, 6, 0] rfl) hH
    · have hF := hF.2 cd
      refine lv_aload_n hx hb dX6_free_82 rfl (lv_at hl 0 rfl) ?_
      refine lv_iload hx hb dX6_free_83 (lv_at hl 5 rfl) ?_
      refine lv_iload hx hb dX6_free_85 (lv_at hl 6 rfl) ?_
      refine lv_iload hx hb dX6_free_87 (lv_at hl 7 rfl) ?_
      refine lv_iload_n hx hb dX6_free_89 rfl (lv_at hl 1 rfl) ?_
      refine lv_iload_n hx hb dX6_free_90 rfl (lv_at hl 2 rfl) ?_
      refine zm_calli (As := [.int v5, .int v6, .int v7, .int v1, .int v2]) (rest := []) X hH (wm_layFault l D cI cZ ad o X.2.2.2.2.2.2.2.2 S M v5 v6 v7 v1 v2 _ hF) (cwV 5 X.2.2.2.2.1 (lw_V q1920 q1922 qs40 q95 q1923) rfl rfl rfl (by decide +kernel) ⟨Nat.le_of_ble_eq_true rfl, Nat.le_of_ble_eq_true rfl⟩) rfl hl.1 rfl (Nat.le_of_ble_eq_true rfl) dX6_free_91 (Nat.le_refl 0) (Nat.le_refl 0) (fun r4 S2 M3 H locs hF hH => ?_)
      obtain ⟨hF, e9, e8⟩ := hF; subst e9; subst e8
      refine lv_if_eq (tgt := 100) hx hb dX6_free_94 (by decide) (fun cd => ?_) (fun cd => ?_)
      · have hF := hF.1 cd
        refine lv_iload hx hb dX6_free_100 (lv_at hl 4 rfl) ?_
        refine lv_iload_n hx hb dX6_free_102 rfl (lv_at hl 3 rfl) ?_
        refine lv_icmp_ne (tgt := 122) hx hb dX6_free_103 (by decide) (fun cd => ?_) (fun cd => ?_)
        · have hF := hF.1 cd
          obtain ⟨x5, ex5⟩ : ∃ z : Int32, z = v4 + 1 := ⟨_, rfl⟩
          have hF := hF x5 ex5
          refine lv_iinc (v := x5) (lv' := [(4, .int x5), (0, .ref o), (1, .int v1), (2, .int v2), (3, .int v3), (5, .int v5), (6, .int v6), (7, .int v7)]) hx hb dX6_free_122 hl (k := 4) rfl (by rw [ex5]; rfl) (by decide) rfl (fun ls hl => ?_)
          exact wm_free_125 X hK37 hK49 ih S M v1 v2 v3 x5 v5 v6 v7 hF _ _ _ (lv_sub hl [1, 2, 3, 4, 0, 5, 6, 7] rfl) hH
        · have hF := hF.2 cd
          refine lv_sipush (v := 1000) hx hb dX6_free_106 (by decide) ?_
          refine lv_iload hx hb dX6_free_109 (lv_at hl 5 rfl) ?_
          refine lv_imul hx hb dX6_free_111 ?_
          refine lv_bipush (v := 50) hx hb dX6_free_112 (by decide) ?_
          refine lv_iload hx hb dX6_free_114 (lv_at hl 6 rfl) ?_
          refine lv_imul hx hb dX6_free_116 ?_
          refine lv_iadd hx hb dX6_free_117 ?_
          refine lv_iload hx hb dX6_free_118 (lv_at hl 7 rfl) ?_
          refine lv_iadd hx hb dX6_free_120 ?_
          exact zm_iret X hH rfl rfl hF dX6_free_121
      · have hF := hF.2 cd
        refine lv_goto (tgt := 125) hx hb dX6_free_97 (by decide) ?_
        exact wm_free_125 X hK37 hK49 ih S M v1 v2 v3 v4 v5 v6 v7 hF _ _ _ (lv_sub hl [0, 1, 2, 3, 4, 5, 6, 7] rfl) hH
set_option maxHeartbeats 4000000 in
set_option maxRecDepth 100000 in
theorem wm_free_49 {p : Program} {l : Launch} {e : Env} {s : State} {m : MethodId} {args : Array Value} {below : List Frame} {meth : Method} {c : Code} {D : va_G} {cI cZ : ClassId} {ad : Nat → Nat} {o : Nat} {Q : Int32 → (Nat → Int32) → (Nat → Nat → Int32) → Prop} {K37 : (Nat → Int32) → (Nat → Nat → Int32) → Int32 → Int32 → Int32 → Int32 → Int32 → Prop} (X : zm_Cx p s m args meth c cX6_free 8 (some .int) D cI cZ ad o) (hK37 : ∀ (S : Nat → Int32) (M : Nat → Nat → Int32) (v1 : Int32) (v2 : Int32) (v3 : Int32) (v4 : Int32) (v5 : Int32), K37 S M v1 v2 v3 v4 v5 → ∀ (H : Heap) (locs : List Loc) (ls : Array Slot), lv_has ls 8 [(0, .ref o), (1, .int v1), (2, .int v2), (3, .int v3), (4, .int v4), (5, .int v5)] → zm_H D cI cZ ad o S M s H locs → W p l e (zm_R 2) s m args below meth c H locs 0 0 (MQ below (zm_QS Q D cI cZ ad o) args s 0 0 (zm_A ad o)) (F0 m 37 ls [])) :
    ∀ (n : Nat) (S : Nat → Int32) (M : Nat → Nat → Int32) (v1 : Int32) (v2 : Int32) (v3 : Int32) (v4 : Int32) (v5 : Int32) (v6 : Int32), fm_free_49 Q K37 n S M v1 v2 v3 v4 v5 v6 → ∀ (H : Heap) (locs : List Loc) (ls : Array Slot), lv_has ls 8 [(0, .ref o), (1, .int v1), (2, .int v2), (3, .int v3), (4, .int v4), (5, .int v5), (6, .int v6)] → zm_H D cI cZ ad o S M s H locs → W p l e (zm_R 2) s m args below meth c H locs 0 0 (MQ below (zm_QS Q D cI cZ ad o) args s 0 0 (zm_A ad o)) (F0 m 49 ls []) := by
  have hx := X.1
  have hb := X.2.1
  intro n
  induction n with
  | zero =>
    intro S M v1 v2 v3 v4 v5 v6 hF
    exact False.elim hF
  | succ n ih =>
    intro S M v1 v2 v3 v4 v5 v6 hF
    intro H locs ls hl hH
    unfold fm_free_49 at hF
    refine lv_iload hx hb dX6_free_49 (lv_at hl 6 rfl) ?_
    refine lv_aload_n hx hb dX6_free_51 rfl (lv_at hl 0 rfl) ?_
    refine zm_getf X hH 4 (by decide) rfl q1717 dX6_free_52 ?_
    refine lv_iload hx hb dX6_free_55 (lv_at hl 5 rfl) ?_
    obtain ⟨hI, hF⟩ := hF
    refine zm_iald X hH 4 (by decide) rfl (n := 8) rfl hI dX6_free_57 ?_
    refine lv_icmp_ge (tgt := 137) hx hb dX6_free_58 (by decide) (fun cd => ?_) (fun cd => ?_)
    · have hF := hF.1 cd
      obtain ⟨x1, ex1⟩ : ∃ z : Int32, z = v5 + 1 := ⟨_, rfl⟩
      have hF := hF x1 ex1
      refine lv_iinc (v := x1) (lv' := [(5, .int x1), (0, .ref o), (1, .int v1), (2, .int v2), (3, .int v3), (4, .int v4), (6, .int v6)]) hx hb dX6_free_137 hl (k := 5) rfl (by rw [ex1]; rfl) (by decide) rfl (fun ls hl => ?_)
      refine lv_goto (tgt := 37) hx hb dX6_free_140 (by decide) ?_
      exact hK37 S M v1 v2 v3 v4 x1 hF _ _ _ (lv_sub hl [1, 2, 3, 4, 5, 0] rfl) hH
    · have hF := hF.2 cd
      refine lv_iconst (v := 0) hx hb dX6_free_61 (by decide) ?_
      refine lv_istore (lv' := [(7, .int 0), (0, .ref o), (1, .int v1), (2, .int v2), (3, .int v3), (4, .int v4), (5, .int v5), (6, .int v6)]) hx hb dX6_free_62 hl (by decide) rfl (fun ls hl => ?_)
      obtain ⟨n9, hF⟩ := hF
      exact wm_free_64 X hK37 ih n9 S M v1 v2 v3 v4 v5 v6 0 hF _ _ _ (lv_sub hl [1, 2, 3, 4, 5, 6, 7, 0] rfl) hH
set_option maxHeartbeats 4000000 in
set_option maxRecDepth 100000 in
theorem wm_free_37 {p : Program} {l : Launch} {e : Env} {s : State} {m : MethodId} {args : Array Value} {below : List Frame} {meth : Method} {c : Code} {D : va_G} {cI cZ : ClassId} {ad : Nat → Nat} {o : Nat} {Q : Int32 → (Nat → Int32) → (Nat → Nat → Int32) → Prop} (X : zm_Cx p s m args meth c cX6_free 8 (some .int) D cI cZ ad o) :
    ∀ (n : Nat) (S : Nat → Int32) (M : Nat → Nat → Int32) (v1 : Int32) (v2 : Int32) (v3 : Int32) (v4 : Int32) (v5 : Int32), fm_free_37 Q n S M v1 v2 v3 v4 v5 → ∀ (H : Heap) (locs : List Loc) (ls : Array Slot), lv_has ls 8 [(0, .ref o), (1, .int v1), (2, .int v2), (3, .int v3), (4, .int v4), (5, .int v5)] → zm_H D cI cZ ad o S M s H locs → W p l e (zm_R 2) s m args below meth c H locs 0 0 (MQ below (zm_QS Q D cI cZ ad o) args s 0 0 (zm_A ad o)) (F0 m 37 ls []) := by
  have hx := X.1
  have hb := X.2.1
  intro n
  induction n with
  | zero =>
    intro S M v1 v2 v3 v4 v5 hF
    exact False.elim hF
  | succ n ih =>
    intro S M v1 v2 v3 v4 v5 hF
    intro H locs ls hl hH
    unfold fm_free_37 at hF
    refine lv_iload hx hb dX6_free_37 (lv_at hl 5 rfl) ?_
    refine lv_aload_n hx hb dX6_free_39 rfl (lv_at hl 0 rfl) ?_
    refine zm_getf X hH 2 (by decide) rfl q1715 dX6_free_40 ?_
    refine lv_icmp_ge (tgt := 143) hx hb dX6_free_43 (by decide) (fun cd => ?_) (fun cd => ?_)
    · have hF := hF.1 cd
      refine lv_iconst (v := (-1)) hx hb dX6_free_143 (by decide) ?_
      exact zm_iret X hH rfl rfl hF dX6_free_144
    · have hF := hF.2 cd
      refine lv_iconst (v := 0) hx hb dX6_free_46 (by decide) ?_
      refine lv_istore (lv' := [(6, .int 0), (0, .ref o), (1, .int v1), (2, .int v2), (3, .int v3), (4, .int v4), (5, .int v5)]) hx hb dX6_free_47 hl (by decide) rfl (fun ls hl => ?_)
      obtain ⟨n9, hF⟩ := hF
      exact wm_free_49 X ih n9 S M v1 v2 v3 v4 v5 0 hF _ _ _ (lv_sub hl [1, 2, 3, 4, 5, 6, 0] rfl) hH
set_option maxHeartbeats 4000000 in
set_option maxRecDepth 100000 in
/-- free: what the bytecode asks is what its run needs -/
theorem wm_free (l : Launch) (D : va_G) (cI cZ : ClassId) (ad : Nat → Nat) (o : Nat) (hAd : zm_Ad ad o) (S : Nat → Int32) (M : Nat → Nat → Int32) (v1 : Int32) (v2 : Int32) (v3 : Int32) (Q : Int32 → (Nat → Int32) → (Nat → Nat → Int32) → Prop) (hF : fm_free S M v1 v2 v3 Q) :
    zm_Mi l yX6_free (ws_ yX6_free cX6_free 8 (some .int)) 2 D cI cZ ad o [.int v1, .int v2, .int v3] S M Q := by
  refine zm_ofi rfl hAd (Nat.le_of_ble_eq_true rfl) ?_
  intro p e s m args below meth c H locs ls X hH hl
  have hx := X.1
  have hb := X.2.1
  have hl : lv_has ls 8 [(0, .ref o), (1, .int v1), (2, .int v2), (3, .int v3)] := hl
  unfold fm_free at hF
  refine lv_aload_n hx hb dX6_free_0 rfl (lv_at hl 0 rfl) ?_
  refine lv_iconst (v := 0) hx hb dX6_free_1 (by decide) ?_
  refine zm_puti X hH 0 (by decide) rfl rfl (by decide +kernel) q1713 dX6_free_2 (fun S1 H locs eS1 hH => ?_)
  have hF := hF S1 eS1
  refine lv_iload_n hx hb dX6_free_5 rfl (lv_at hl 1 rfl) ?_
  refine lv_iconst (v := 1) hx hb dX6_free_6 (by decide) ?_
  refine lv_icmp_lt (tgt := 29) hx hb dX6_free_7 (by decide) (fun cd => ?_) (fun cd => ?_)
  · have hF := hF.1 cd
    refine lv_iconst (v := (-1)) hx hb dX6_free_29 (by decide) ?_
    exact zm_iret X hH rfl rfl hF dX6_free_30
  · have hF := hF.2 cd
    refine lv_iload_n hx hb dX6_free_10 rfl (lv_at hl 1 rfl) ?_
    refine lv_bipush (v := 6) hx hb dX6_free_11 (by decide) ?_
    refine lv_icmp_gt (tgt := 29) hx hb dX6_free_13 (by decide) (fun cd => ?_) (fun cd => ?_)
    · have hF := hF.1 cd
      refine lv_iconst (v := (-1)) hx hb dX6_free_29 (by decide) ?_
      exact zm_iret X hH rfl rfl hF dX6_free_30
    · have hF := hF.2 cd
      refine lv_aload_n hx hb dX6_free_16 rfl (lv_at hl 0 rfl) ?_
      refine lv_iload_n hx hb dX6_free_17 rfl (lv_at hl 1 rfl) ?_
      refine lv_iload_n hx hb dX6_free_18 rfl (lv_at hl 2 rfl) ?_
      refine zm_calli (As := [.int v1, .int v2]) (rest := []) X hH (wm_isWide l D cI cZ ad o X.2.2.2.2.2.2.2.2 S1 M v1 v2 _ hF) (cwV 2 X.2.2.2.2.1 (lw_V q1916 q1918 qs39 q95 q1919) rfl rfl rfl (by decide +kernel) ⟨Nat.le_of_ble_eq_true rfl, Nat.le_of_ble_eq_true rfl⟩) rfl hl.1 rfl (Nat.le_of_ble_eq_true rfl) dX6_free_19 (Nat.le_refl 0) (Nat.le_refl 0) (fun r4 S2 M3 H locs hF hH => ?_)
      obtain ⟨hF, e9, e8⟩ := hF; subst e9; subst e8
      refine lv_if_eq (tgt := 29) hx hb dX6_free_22 (by decide) (fun cd => ?_) (fun cd => ?_)
      · have hF := hF.1 cd
        refine lv_iconst (v := (-1)) hx hb dX6_free_29 (by decide) ?_
        exact zm_iret X hH rfl rfl hF dX6_free_30
      · have hF := hF.2 cd
        refine lv_iload_n hx hb dX6_free_25 rfl (lv_at hl 3 rfl) ?_
        refine lv_if_ge (tgt := 31) hx hb dX6_free_26 (by decide) (fun cd => ?_) (fun cd => ?_)
        · have hF := hF.1 cd
          refine lv_iconst (v := 0) hx hb dX6_free_31 (by decide) ?_
          refine lv_istore (lv' := [(4, .int 0), (0, .ref o), (1, .int v1), (2, .int v2), (3, .int v3)]) hx hb dX6_free_32 hl (by decide) rfl (fun ls hl => ?_)
          refine lv_iconst (v := 0) hx hb dX6_free_34 (by decide) ?_
          refine lv_istore (lv' := [(5, .int 0), (4, .int 0), (0, .ref o), (1, .int v1), (2, .int v2), (3, .int v3)]) hx hb dX6_free_35 hl (by decide) rfl (fun ls hl => ?_)
          obtain ⟨n9, hF⟩ := hF
          exact wm_free_37 X n9 S1 M v1 v2 v3 0 0 hF _ _ _ (lv_sub hl [2, 3, 4, 5, 1, 0] rfl) hH
        · have hF := hF.2 cd
          refine lv_iconst (v := (-1)) hx hb dX6_free_29 (by decide) ?_
          exact zm_iret X hH rfl rfl hF dX6_free_30
set_option maxHeartbeats 4000000 in
set_option maxRecDepth 100000 in
/-- spot: what the bytecode asks is what its run needs -/
theorem wm_spot (l : Launch) (D : va_G) (cI cZ : ClassId) (ad : Nat → Nat) (o : Nat) (hAd : zm_Ad ad o) (S : Nat → Int32) (M : Nat → Nat → Int32) (v1 : Int32) (v2 : Int32) (v3 : Int32) (Q : Int32 → (Nat → Int32) → (Nat → Nat → Int32) → Prop) (hF : fm_spot S M v1 v2 v3 Q) :
    zm_Mi l yX6_spot (ws_ yX6_spot cX6_spot 5 (some .int)) 2 D cI cZ ad o [.int v1, .int v2, .int v3] S M Q := by
  refine zm_ofi rfl hAd (Nat.le_of_ble_eq_true rfl) ?_
  intro p e s m args below meth c H locs ls X hH hl
  have hx := X.1
  have hb := X.2.1
  have hl : lv_has ls 5 [(0, .ref o), (1, .int v1), (2, .int v2), (3, .int v3)] := hl
  unfold fm_spot at hF
  refine lv_aload_n hx hb dX6_spot_0 rfl (lv_at hl 0 rfl) ?_
  refine lv_iconst (v := 0) hx hb dX6_spot_1 (by decide) ?_
  refine zm_puti X hH 0 (by decide) rfl rfl (by decide +kernel) q1713 dX6_spot_2 (fun S1 H locs eS1 hH => ?_)
  have hF := hF S1 eS1
  refine lv_aload_n hx hb dX6_spot_5 rfl (lv_at hl 0 rfl) ?_
  refine lv_iload_n hx hb dX6_spot_6 rfl (lv_at hl 1 rfl) ?_
  refine lv_iload_n hx hb dX6_spot_7 rfl (lv_at hl 2 rfl) ?_
  refine lv_iload_n hx hb dX6_spot_8 rfl (lv_at hl 3 rfl) ?_
  refine zm_calli (As := [.int v1, .int v2, .int v3]) (rest := []) X hH (wm_spotFault l D cI cZ ad o X.2.2.2.2.2.2.2.2 S1 M v1 v2 v3 _ hF) (cwV 3 X.2.2.2.2.1 (lw_V q1900 q1902 qs35 q95 q1903) rfl rfl rfl (by decide +kernel) ⟨Nat.le_of_ble_eq_true rfl, Nat.le_of_ble_eq_true rfl⟩) rfl hl.1 rfl (Nat.le_of_ble_eq_true rfl) dX6_spot_9 (Nat.le_refl 0) (Nat.le_refl 0) (fun r4 S2 M3 H locs hF hH => ?_)
  obtain ⟨hF, e9, e8⟩ := hF; subst e9; subst e8
  refine lv_istore (lv' := [(4, .int r4), (0, .ref o), (1, .int v1), (2, .int v2), (3, .int v3)]) hx hb dX6_spot_12 hl (by decide) rfl (fun ls hl => ?_)
  refine lv_iload hx hb dX6_spot_14 (lv_at hl 0 rfl) ?_
  refine lv_if_eq (tgt := 24) hx hb dX6_spot_16 (by decide) (fun cd => ?_) (fun cd => ?_)
  · have hF := hF.1 cd
    refine lv_aload_n hx hb dX6_spot_24 rfl (lv_at hl 1 rfl) ?_
    refine zm_getf X hH 8 (by decide) rfl q1721 dX6_spot_25 ?_
    refine lv_bipush (v := 30) hx hb dX6_spot_28 (by decide) ?_
    refine lv_bipush (v := 12) hx hb dX6_spot_30 (by decide) ?_
    refine lv_iload_n hx hb dX6_spot_32 rfl (lv_at hl 2 rfl) ?_
    refine lv_imul hx hb dX6_spot_33 ?_
    refine lv_iload_n hx hb dX6_spot_34 rfl (lv_at hl 3 rfl) ?_
    refine lv_iadd hx hb dX6_spot_35 ?_
    refine lv_imul hx hb dX6_spot_36 ?_
    refine lv_iload_n hx hb dX6_spot_37 rfl (lv_at hl 4 rfl) ?_
    refine lv_iadd hx hb dX6_spot_38 ?_
    obtain ⟨hI, hF⟩ := hF
    refine zm_iald X hH 8 (by decide) rfl (n := 2880) rfl hI dX6_spot_39 ?_
    exact zm_iret X hH rfl rfl hF dX6_spot_40
  · have hF := hF.2 cd
    refine lv_iload hx hb dX6_spot_19 (lv_at hl 0 rfl) ?_
    refine lv_goto (tgt := 40) hx hb dX6_spot_21 (by decide) ?_
    exact zm_iret X hH rfl rfl hF dX6_spot_40
set_option maxHeartbeats 4000000 in
set_option maxRecDepth 100000 in
theorem wm_look_296 {p : Program} {l : Launch} {e : Env} {s : State} {m : MethodId} {args : Array Value} {below : List Frame} {meth : Method} {c : Code} {D : va_G} {cI cZ : ClassId} {ad : Nat → Nat} {o : Nat} {Q : Int32 → (Nat → Int32) → (Nat → Nat → Int32) → Prop} {K233 : (Nat → Int32) → (Nat → Nat → Int32) → Int32 → Int32 → Int32 → Int32 → Int32 → Prop} (X : zm_Cx p s m args meth c cX6_look 8 (some .int) D cI cZ ad o) (hK233 : ∀ (S : Nat → Int32) (M : Nat → Nat → Int32) (v1 : Int32) (v2 : Int32) (v5 : Int32) (v6 : Int32) (v7 : Int32), K233 S M v1 v2 v5 v6 v7 → ∀ (H : Heap) (locs : List Loc) (ls : Array Slot), lv_has ls 8 [(0, .ref o), (1, .int v1), (2, .int v2), (5, .int v5), (6, .int v6), (7, .int v7)] → zm_H D cI cZ ad o S M s H locs → W p l e (zm_R 1) s m args below meth c H locs 0 0 (MQ below (zm_QS Q D cI cZ ad o) args s 0 0 (zm_A ad o)) (F0 m 233 ls [])) :
    ∀ (S : Nat → Int32) (M : Nat → Nat → Int32) (v1 : Int32) (v2 : Int32) (v5 : Int32) (v6 : Int32) (v7 : Int32), fm_look_296 Q K233 S M v1 v2 v5 v6 v7 → ∀ (H : Heap) (locs : List Loc) (ls : Array Slot), lv_has ls 8 [(0, .ref o), (1, .int v1), (2, .int v2), (5, .int v5), (6, .int v6), (7, .int v7)] → zm_H D cI cZ ad o S M s H locs → W p l e (zm_R 1) s m args below meth c H locs 0 0 (MQ below (zm_QS Q D cI cZ ad o) args s 0 0 (zm_A ad o)) (F0 m 296 ls []) := by
  have hx := X.1
  have hb := X.2.1
  intro S M v1 v2 v5 v6 v7 hF
  intro H locs ls hl hH
  unfold fm_look_296 at hF
  obtain ⟨x1, ex1⟩ : ∃ z : Int32, z = v7 + 1 := ⟨_, rfl⟩
  have hF := hF x1 ex1
  refine lv_iinc (v := x1) (lv' := [(7, .int x1), (0, .ref o), (1, .int v1), (2, .int v2), (5, .int v5), (6, .int v6)]) hx hb dX6_look_296 hl (k := 5) rfl (by rw [ex1]; rfl) (by decide) rfl (fun ls hl => ?_)
  refine lv_goto (tgt := 233) hx hb dX6_look_299 (by decide) ?_
  exact hK233 S M v1 v2 v5 v6 x1 hF _ _ _ (lv_sub hl [1, 2, 3, 4, 5, 0] rfl) hH
set_option maxHeartbeats 4000000 in
set_option maxRecDepth 100000 in
theorem wm_look_294 {p : Program} {l : Launch} {e : Env} {s : State} {m : MethodId} {args : Array Value} {below : List Frame} {meth : Method} {c : Code} {D : va_G} {cI cZ : ClassId} {ad : Nat → Nat} {o : Nat} {Q : Int32 → (Nat → Int32) → (Nat → Nat → Int32) → Prop} {K233 : (Nat → Int32) → (Nat → Nat → Int32) → Int32 → Int32 → Int32 → Int32 → Int32 → Prop} (X : zm_Cx p s m args meth c cX6_look 8 (some .int) D cI cZ ad o) (hK233 : ∀ (S : Nat → Int32) (M : Nat → Nat → Int32) (v1 : Int32) (v2 : Int32) (v5 : Int32) (v6 : Int32) (v7 : Int32), K233 S M v1 v2 v5 v6 v7 → ∀ (H : Heap) (locs : List Loc) (ls : Array Slot), lv_has ls 8 [(0, .ref o), (1, .int v1), (2, .int v2), (5, .int v5), (6, .int v6), (7, .int v7)] → zm_H D cI cZ ad o S M s H locs → W p l e (zm_R 1) s m args below meth c H locs 0 0 (MQ below (zm_QS Q D cI cZ ad o) args s 0 0 (zm_A ad o)) (F0 m 233 ls [])) :
    ∀ (S : Nat → Int32) (M : Nat → Nat → Int32) (v1 : Int32) (v2 : Int32) (v5 : Int32) (v7 : Int32) (t0 : Int32), fm_look_294 Q K233 S M v1 v2 v5 v7 t0 → ∀ (H : Heap) (locs : List Loc) (ls : Array Slot), lv_has ls 8 [(0, .ref o), (1, .int v1), (2, .int v2), (5, .int v5), (7, .int v7)] → zm_H D cI cZ ad o S M s H locs → W p l e (zm_R 1) s m args below meth c H locs 0 0 (MQ below (zm_QS Q D cI cZ ad o) args s 0 0 (zm_A ad o)) (F0 m 294 ls [.int t0]) := by
  have hx := X.1
  have hb := X.2.1
  intro S M v1 v2 v5 v7 t0 hF
  intro H locs ls hl hH
  unfold fm_look_294 at hF
  refine lv_istore (lv' := [(6, .int t0), (0, .ref o), (1, .int v1), (2, .int v2), (5, .int v5), (7, .int v7)]) hx hb dX6_look_294 hl (by decide) rfl (fun ls hl => ?_)
  exact wm_look_296 X hK233 S M v1 v2 v5 t0 v7 hF _ _ _ (lv_sub hl [1, 2, 3, 4, 0, 5] rfl) hH
set_option maxHeartbeats 4000000 in
set_option maxRecDepth 100000 in
theorem wm_look_233 {p : Program} {l : Launch} {e : Env} {s : State} {m : MethodId} {args : Array Value} {below : List Frame} {meth : Method} {c : Code} {D : va_G} {cI cZ : ClassId} {ad : Nat → Nat} {o : Nat} {Q : Int32 → (Nat → Int32) → (Nat → Nat → Int32) → Prop} (X : zm_Cx p s m args meth c cX6_look 8 (some .int) D cI cZ ad o) :
    ∀ (n : Nat) (S : Nat → Int32) (M : Nat → Nat → Int32) (v1 : Int32) (v2 : Int32) (v5 : Int32) (v6 : Int32) (v7 : Int32), fm_look_233 Q n S M v1 v2 v5 v6 v7 → ∀ (H : Heap) (locs : List Loc) (ls : Array Slot), lv_has ls 8 [(0, .ref o), (1, .int v1), (2, .int v2), (5, .int v5), (6, .int v6), (7, .int v7)] → zm_H D cI cZ ad o S M s H locs → W p l e (zm_R 1) s m args below meth c H locs 0 0 (MQ below (zm_QS Q D cI cZ ad o) args s 0 0 (zm_A ad o)) (F0 m 233 ls []) := by
  have hx := X.1
  have hb := X.2.1
  intro n
  induction n with
  | zero =>
    intro S M v1 v2 v5 v6 v7 hF
    exact False.elim hF
  | succ n ih =>
    intro S M v1 v2 v5 v6 v7 hF
    intro H locs ls hl hH
    unfold fm_look_233 at hF
    refine lv_iload hx hb dX6_look_233 (lv_at hl 5 rfl) ?_
    refine lv_aload_n hx hb dX6_look_235 rfl (lv_at hl 0 rfl) ?_
    refine zm_getf X hH 27 (by decide) rfl q1740 dX6_look_236 ?_
    refine lv_icmp_ge (tgt := 302) hx hb dX6_look_239 (by decide) (fun cd => ?_) (fun cd => ?_)
    · have hF := hF.1 cd
      refine lv_iload_n hx hb dX6_look_302 rfl (lv_at hl 2 rfl) ?_
      refine lv_bipush (v := 9) hx hb dX6_look_303 (by decide) ?_
      refine lv_icmp_ne (tgt := 313) hx hb dX6_look_305 (by decide) (fun cd => ?_) (fun cd => ?_)
      · have hF := hF.1 cd
        refine lv_iload hx hb dX6_look_313 (lv_at hl 4 rfl) ?_
        exact zm_iret X hH rfl rfl hF dX6_look_315
      · have hF := hF.2 cd
        refine lv_iload hx hb dX6_look_308 (lv_at hl 3 rfl) ?_
        refine lv_goto (tgt := 315) hx hb dX6_look_310 (by decide) ?_
        exact zm_iret X hH rfl rfl hF dX6_look_315
    · have hF := hF.2 cd
      refine lv_aload_n hx hb dX6_look_242 rfl (lv_at hl 0 rfl) ?_
      refine zm_getf X hH 30 (by decide) rfl q1743 dX6_look_243 ?_
      refine lv_iload hx hb dX6_look_246 (lv_at hl 5 rfl) ?_
      obtain ⟨hI, hF⟩ := hF
      refine zm_iald X hH 30 (by decide) rfl (n := 150) rfl hI dX6_look_248 ?_
      refine lv_iconst (v := 2) hx hb dX6_look_249 (by decide) ?_
      refine lv_icmp_ne (tgt := 296) hx hb dX6_look_250 (by decide) (fun cd => ?_) (fun cd => ?_)
      · have hF := hF.1 cd
        exact wm_look_296 X ih S M v1 v2 v5 v6 v7 hF _ _ _ (lv_sub hl [0, 1, 2, 3, 4, 5] rfl) hH
      · have hF := hF.2 cd
        refine lv_aload_n hx hb dX6_look_253 rfl (lv_at hl 0 rfl) ?_
        refine zm_getf X hH 31 (by decide) rfl q1744 dX6_look_254 ?_
        refine lv_iload hx hb dX6_look_257 (lv_at hl 5 rfl) ?_
        obtain ⟨hI, hF⟩ := hF
        refine zm_iald X hH 31 (by decide) rfl (n := 150) rfl hI dX6_look_259 ?_
        refine lv_iload_n hx hb dX6_look_260 rfl (lv_at hl 1 rfl) ?_
        refine lv_icmp_eq (tgt := 267) hx hb dX6_look_261 (by decide) (fun cd => ?_) (fun cd => ?_)
        · have hF := hF.1 cd
          obtain ⟨x1, ex1⟩ : ∃ z : Int32, z = v5 + 1 := ⟨_, rfl⟩
          have hF := hF x1 ex1
          refine lv_iinc (v := x1) (lv' := [(5, .int x1), (0, .ref o), (1, .int v1), (2, .int v2), (6, .int v6), (7, .int v7)]) hx hb dX6_look_267 hl (k := 3) rfl (by rw [ex1]; rfl) (by decide) rfl (fun ls hl => ?_)
          refine lv_aload_n hx hb dX6_look_270 rfl (lv_at hl 1 rfl) ?_
          refine zm_getf X hH 34 (by decide) rfl q1747 dX6_look_271 ?_
          refine lv_iload hx hb dX6_look_274 (lv_at hl 5 rfl) ?_
          obtain ⟨hI, hF⟩ := hF
          refine zm_iald X hH 34 (by decide) rfl (n := 150) rfl hI dX6_look_276 ?_
          refine lv_iload hx hb dX6_look_277 (lv_at hl 4 rfl) ?_
          refine lv_icmp_le (tgt := 292) hx hb dX6_look_279 (by decide) (fun cd => ?_) (fun cd => ?_)
          · have hF := hF.1 cd
            refine lv_iload hx hb dX6_look_292 (lv_at hl 4 rfl) ?_
            exact wm_look_294 X ih S M v1 v2 x1 v7 v6 hF _ _ _ (lv_sub hl [1, 2, 3, 0, 5] rfl) hH
          · have hF := hF.2 cd
            refine lv_aload_n hx hb dX6_look_282 rfl (lv_at hl 1 rfl) ?_
            refine zm_getf X hH 34 (by decide) rfl q1747 dX6_look_283 ?_
            refine lv_iload hx hb dX6_look_286 (lv_at hl 5 rfl) ?_
            obtain ⟨hI, hF⟩ := hF
            refine zm_iald X hH 34 (by decide) rfl (n := 150) rfl hI dX6_look_288 ?_
            refine lv_goto (tgt := 294) hx hb dX6_look_289 (by decide) ?_
            exact wm_look_294 X ih S M v1 v2 x1 v7 (M 34 v7.toNatClampNeg) hF _ _ _ (lv_sub hl [1, 2, 3, 0, 5] rfl) hH
        · have hF := hF.2 cd
          refine lv_goto (tgt := 296) hx hb dX6_look_264 (by decide) ?_
          exact wm_look_296 X ih S M v1 v2 v5 v6 v7 hF _ _ _ (lv_sub hl [0, 1, 2, 3, 4, 5] rfl) hH
