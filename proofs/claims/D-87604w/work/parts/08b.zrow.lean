/-! THE COMPONENT SIDE, rows of calls and throws -/
set_option maxRecDepth 100000
theorem zc_nmci : ∀ (ci : Nat) (r : vw_C), zc_cl[ci]? = some r → zc_nmT (ci + 1) = r.1 := by
  intro ci r h
  match ci, h with
  | 0, h => cases h; rfl
  | 1, h => cases h; rfl
  | 2, h => cases h; rfl
  | 3, h => cases h; rfl
  | 4, h => cases h; rfl
  | 5, h => cases h; rfl
  | 6, h => cases h; rfl
  | 7, h => cases h; rfl
  | 8, h => cases h; rfl
  | 9, h => cases h; rfl
  | 10, h => cases h; rfl
  | 11, h => cases h; rfl
  | 12, h => cases h; rfl
  | 13, h => cases h; rfl
  | 14, h => cases h; rfl
  | 15, h => cases h; rfl
  | n + 16, h => simp [zc_cl] at h
section ZC7
variable {p : Program} {l : Launch} {e : Env} {R : Room} {s : State} {m : MethodId} {args : Array Value} {below : List Frame} {meth : Method} {c : Code} {H : Heap} {locs : List Loc} {cells slots : Nat} {Q : State → Prop}
variable {cc : ByteArray} {nL pc : Nat} {ret : Option FieldType} {own : String} {ls : Array Slot} {rest : List Value} {D : va_G} {cA : Nat → ClassId} {P : Nat → Prop} {G : Nat × Nat × Nat} {h : ZH} {cr sr : Nat}
variable {QR : Option Value → ZH → Prop} {XR : String → Nat → ZH → Prop}
theorem zq_st {st st2 : List Value} (e1 : st = st2) (k : W p l e R s m args below meth c H locs cells slots Q (F0 m pc ls st2)) : W p l e R s m args below meth c H locs cells slots Q (F0 m pc ls st) := e1 ▸ k
theorem zq_top {r : Option Nat} (k : ∀ w : Option Nat, w = r → W p l e R s m args below meth c H locs cells slots Q (F0 m pc ls (va_rf w :: rest))) : W p l e R s m args below meth c H locs cells slots Q (F0 m pc ls (va_rf r :: rest)) := k r rfl
theorem zq_null {r : Option Nat} (k0 : r = none → W p l e R s m args below meth c H locs cells slots Q (F0 m pc ls (.null :: rest))) (k1 : ∀ b : Nat, r = some b → W p l e R s m args below meth c H locs cells slots Q (F0 m pc ls (.ref b :: rest))) : W p l e R s m args below meth c H locs cells slots Q (F0 m pc ls (va_rf r :: rest)) := by
  cases r with
  | none => exact k0 rfl
  | some b => exact k1 b rfl
theorem zc_fix (X : zc_Cx p l s m args meth c cc nL ret own D cA P G) : CallFix p m c cc nL s args lw_all own := ⟨X.1, X.2.1, X.2.2.1, X.2.2.2.1, X.2.2.2.2.1⟩
theorem zc_ini (X : zc_Cx p l s m args meth c cc nL ret own D cA P G) {C : String} (h : Cond.initialized C ∈ lw_all) : (Cond.initialized C).before args s = true := X.2.2.2.2.1 _ h
/-- where the callee stands: d1 calls deep, with c1 cells and s1 slots -/
abbrev zc_rm (R : Room) (d1 maxL : Nat) : Prop := d1 + 9 ≤ R.frames ∧ maxL ≤ 21 ∧ 10240 + 40 * d1 + 40 ≤ R.locals
theorem zc_rV (X : zc_Cx p l s m args meth c cc nL ret own D cA P G) (hH : zc_H D cA P h s H locs) {y : MethodName} {bytes : ByteArray} {maxL d1 c1 s1 n idx : Nat} {ret' : Option FieldType} {As : List Value} {a t : Nat} {C : String} (ht : zt h a = t) (h0 : t ≠ 0) (hC : zc_nmT t = C)
    (hM : zc_M l y (ws_ y bytes maxL ret') d1 D cA P G (.ref a :: As) h c1 s1 QR XR) (hG : GoodIn lw_all (wsV own idx C y (ws_ y bytes maxL ret'))) (hd : y.cls = C ∧ y.cls ≠ "java/lang/invoke/MethodHandle" ∧ y.cls ≠ "java/lang/invoke/VarHandle" ∧ (parseMethodDescriptor y.desc).map (fun d => d.parameters.length) = some n) (hR : zc_rm R d1 maxL)
    (hn : As.length = n) (hsize : ls.size = nL) {st0 : List Value} (hst : st0 = As.reverse ++ .ref a :: rest) (hcat : (rest.map fun v => v.category).sum ≤ 8) (hdg : decode cc pc = .ok (.invokevirtual idx, 3)) (hf : cells + c1 ≤ R.cells ∧ slots + s1 ≤ R.slots) :
    vx_Run p l e R s m args below meth c H locs cells slots c1 s1 (F0 m pc ls st0) rest (zc_Q D cA P QR (Value.ref a :: As).toArray) (zc_X D cA P XR) P :=
  vx_runV (zc_fix X) hM (cwV n X.2.2.2.2.1 hG rfl rfl rfl hd ⟨by show d1 + 8 + 1 ≤ R.frames; omega, by show 8 + (maxL + 11) + (10240 + 40 * d1) ≤ R.locals; omega⟩) (zc_preV X hH ht h0 hC) rfl hn hsize hst (by show 2 * 0 + _ ≤ 8; omega) hdg hf
theorem zc_rVW (X : zc_Cx p l s m args meth c cc nL ret own D cA P G) (hH : zc_H D cA P h s H locs) {y : MethodName} {bytes : ByteArray} {maxL d1 c1 s1 n idx : Nat} {ret' : Option FieldType} {hh : List (Nat × Nat × Nat × Nat)} {As : List Value} {a t : Nat} {C : String} (ht : zt h a = t) (h0 : t ≠ 0) (hC : zc_nmT t = C)
    (hM : zc_M l y (wsW_ y bytes maxL ret' hh) d1 D cA P G (.ref a :: As) h c1 s1 QR XR) (hG : GoodIn lw_all (wsV own idx C y (wsW_ y bytes maxL ret' hh))) (hd : y.cls = C ∧ y.cls ≠ "java/lang/invoke/MethodHandle" ∧ y.cls ≠ "java/lang/invoke/VarHandle" ∧ (parseMethodDescriptor y.desc).map (fun d => d.parameters.length) = some n) (hR : zc_rm R d1 maxL)
    (hn : As.length = n) (hsize : ls.size = nL) {st0 : List Value} (hst : st0 = As.reverse ++ .ref a :: rest) (hcat : (rest.map fun v => v.category).sum ≤ 8) (hdg : decode cc pc = .ok (.invokevirtual idx, 3)) (hf : cells + c1 ≤ R.cells ∧ slots + s1 ≤ R.slots) :
    vx_Run p l e R s m args below meth c H locs cells slots c1 s1 (F0 m pc ls st0) rest (zc_Q D cA P QR (Value.ref a :: As).toArray) (zc_X D cA P XR) P :=
  vx_runVX (zc_fix X) hM (vx_cwVW n X.2.2.2.2.1 hG rfl rfl rfl hd ⟨by show d1 + 8 + 1 ≤ R.frames; omega, by show 8 + (maxL + 11) + (10240 + 40 * d1) ≤ R.locals; omega⟩) (zc_preV X hH ht h0 hC) rfl hn hsize hst (by show 2 * 0 + _ ≤ 8; omega) hdg hf
theorem zc_rS (X : zc_Cx p l s m args meth c cc nL ret own D cA P G) (hH : zc_H D cA P h s H locs) {y : MethodName} {bytes : ByteArray} {maxL d1 c1 s1 n idx : Nat} {ret' : Option FieldType} {As : List Value}
    (hM : zc_M l y (ws_ y bytes maxL ret') d1 D cA P G As h c1 s1 QR XR) (hG : GoodIn lw_all (va_wsS own idx y (ws_ y bytes maxL ret'))) (hd : y.cls ≠ "java/lang/invoke/MethodHandle" ∧ y.cls ≠ "java/lang/invoke/VarHandle" ∧ (parseMethodDescriptor y.desc).map (fun d => d.parameters.length) = some n) (hR : zc_rm R d1 maxL)
    (hn : As.length = n) (hsize : ls.size = nL) {st0 : List Value} (hst : st0 = As.reverse ++ rest) (hcat : (rest.map fun v => v.category).sum ≤ 8) (hdg : decode cc pc = .ok (.invokestatic idx, 3)) (hf : cells + c1 ≤ R.cells ∧ slots + s1 ≤ R.slots) :
    vx_Run p l e R s m args below meth c H locs cells slots c1 s1 (F0 m pc ls st0) rest (zc_Q D cA P QR As.toArray) (zc_X D cA P XR) P :=
  vx_runS (zc_fix X) hM (va_cwS n X.2.2.2.2.1 hG rfl rfl rfl hd ⟨by show d1 + 8 + 1 ≤ R.frames; omega, by show 8 + (maxL + 11) + (10240 + 40 * d1) ≤ R.locals; omega⟩) (zc_preS X hH) rfl hn hsize hst (by show 2 * 0 + _ ≤ 8; omega) hdg hf
theorem zc_rSN (X : zc_Cx p l s m args meth c cc nL ret own D cA P G) (hH : zc_H D cA P h s H locs) {y : MethodName} {bytes : ByteArray} {maxL d1 c1 s1 n idx : Nat} {host : String} {ret' : Option FieldType} {As : List Value}
    (hM : zc_M l y (ws_ y bytes maxL ret') d1 D cA P G As h c1 s1 QR XR) (hG : GoodIn lw_all (ws_ y bytes maxL ret')) (hl : (own, idx, y, host) ∈ zc_mln) (hini : Cond.initialized y.cls ∈ lw_all) (hst9 : Cond.static y ∈ lw_all) (hd : y.cls ≠ "java/lang/invoke/MethodHandle" ∧ y.cls ≠ "java/lang/invoke/VarHandle" ∧ (parseMethodDescriptor y.desc).map (fun d => d.parameters.length) = some n) (hR : zc_rm R d1 maxL)
    (hn : As.length = n) (hsize : ls.size = nL) {st0 : List Value} (hst : st0 = As.reverse ++ rest) (hcat : (rest.map fun v => v.category).sum ≤ 8) (hdg : decode cc pc = .ok (.invokestatic idx, 3)) (hf : cells + c1 ≤ R.cells ∧ slots + s1 ≤ R.slots) :
    vx_Run p l e R s m args below meth c H locs cells slots c1 s1 (F0 m pc ls st0) rest (zc_Q D cA P QR As.toArray) (zc_X D cA P XR) P :=
  vx_runSN (zc_fix X) hM ⟨va_cnB n X.2.2.2.2.1 hG rfl rfl rfl (X.2.2.2.2.2.2.2.2.2.2.2.1 _ hl) (zc_ini X hini) hd ⟨by show d1 + 8 + 1 ≤ R.frames; omega, by show 8 + (maxL + 11) + (10240 + 40 * d1) ≤ R.locals; omega⟩, X.2.2.2.2.1 _ hst9, trivial⟩ (zc_preS X hH) rfl hn hsize hst (by show 2 * 0 + _ ≤ 8; omega) hdg hf
theorem zc_rI (X : zc_Cx p l s m args meth c cc nL ret own D cA P G) (hH : zc_H D cA P h s H locs) {y : MethodName} {bytes : ByteArray} {maxL d1 c1 s1 n idx : Nat} {As : List Value} {a : Nat}
    (hM : zc_M l y (ws_ y bytes maxL none) d1 D cA P G (.ref a :: As) h c1 s1 QR XR) (hG : GoodIn lw_all (ws_ y bytes maxL none)) (hl : Cond.methodLink own idx y ∈ lw_all) (hini : Cond.initialized y.cls ∈ lw_all) (hin : Cond.instanceMethod y ∈ lw_all) (hy1 : y.name = "<init>") (hd : y.cls ≠ "java/lang/invoke/MethodHandle" ∧ y.cls ≠ "java/lang/invoke/VarHandle" ∧ (parseMethodDescriptor y.desc).map (fun d => d.parameters.length) = some n) (hR : zc_rm R d1 maxL)
    (hn : As.length = n) (hsize : ls.size = nL) {st0 : List Value} (hst : st0 = As.reverse ++ .ref a :: rest) (hcat : (rest.map fun v => v.category).sum ≤ 8) (hdg : decode cc pc = .ok (.invokespecial idx, 3)) (hf : cells + c1 ≤ R.cells ∧ slots + s1 ≤ R.slots) :
    vx_Run p l e R s m args below meth c H locs cells slots c1 s1 (F0 m pc ls st0) rest (zc_Q D cA P QR (Value.ref a :: As).toArray) (zc_X D cA P XR) P :=
  vx_runI (zc_fix X) hM (cwI n X.2.2.2.2.1 hG rfl rfl rfl (zc_ini X hini) (X.2.2.2.2.1 _ hl) (X.2.2.2.2.1 _ hin) hy1 hd ⟨by show d1 + 8 + 1 ≤ R.frames; omega, by show 8 + (maxL + 11) + (10240 + 40 * d1) ≤ R.locals; omega⟩) (zc_preS X hH) rfl hn hsize hst (by show 2 * 0 + _ ≤ 8; omega) hdg hf
theorem zc_rIN (X : zc_Cx p l s m args meth c cc nL ret own D cA P G) (hH : zc_H D cA P h s H locs) {y : MethodName} {bytes : ByteArray} {maxL d1 c1 s1 n idx : Nat} {host : String} {As : List Value} {a : Nat}
    (hM : zc_M l y (ws_ y bytes maxL none) d1 D cA P G (.ref a :: As) h c1 s1 QR XR) (hG : GoodIn lw_all (ws_ y bytes maxL none)) (hl : (own, idx, y, host) ∈ zc_mln) (hini : Cond.initialized y.cls ∈ lw_all) (hin : Cond.instanceMethod y ∈ lw_all) (hy1 : y.name = "<init>") (hd : y.cls ≠ "java/lang/invoke/MethodHandle" ∧ y.cls ≠ "java/lang/invoke/VarHandle" ∧ (parseMethodDescriptor y.desc).map (fun d => d.parameters.length) = some n) (hR : zc_rm R d1 maxL)
    (hn : As.length = n) (hsize : ls.size = nL) {st0 : List Value} (hst : st0 = As.reverse ++ .ref a :: rest) (hcat : (rest.map fun v => v.category).sum ≤ 8) (hdg : decode cc pc = .ok (.invokespecial idx, 3)) (hf : cells + c1 ≤ R.cells ∧ slots + s1 ≤ R.slots) :
    vx_Run p l e R s m args below meth c H locs cells slots c1 s1 (F0 m pc ls st0) rest (zc_Q D cA P QR (Value.ref a :: As).toArray) (zc_X D cA P XR) P :=
  vx_runIN (zc_fix X) hM ⟨va_cnB n X.2.2.2.2.1 hG rfl rfl rfl (X.2.2.2.2.2.2.2.2.2.2.2.1 _ hl) (zc_ini X hini) hd ⟨by show d1 + 8 + 1 ≤ R.frames; omega, by show 8 + (maxL + 11) + (10240 + 40 * d1) ≤ R.locals; omega⟩, hy1, X.2.2.2.2.1 _ hin⟩ (zc_preS X hH) rfl hn hsize hst (by show 2 * 0 + _ ≤ 8; omega) hdg hf
/-- a call that another class's method may answer -/
theorem zc_rU (X : zc_Cx p l s m args meth c cc nL ret own D cA P G) (hH : zc_H D cA P h s H locs) {x y : MethodName} {bytes : ByteArray} {maxL d1 c1 s1 n idx : Nat} {ret' : Option FieldType} {As : List Value} {a t : Nat} {C owner : String} (ht : zt h a = t) (h0 : t ≠ 0) (hC : zc_nmT t = C)
    (hM : zc_M l y (ws_ y bytes maxL ret') d1 D cA P G (.ref a :: As) h c1 s1 QR XR) (hG : GoodIn lw_all (ws_ y bytes maxL ret')) (hlink : (Cond.methodLink own idx x).before args s = true) (hsame : (Cond.sameMethod x.cls owner x.name x.desc).before args s = true) (hdecl : va_Decl s ⟨owner, x.name, x.desc⟩) (hsel : (Cond.selects C x y).before args s = true) (hinst : Cond.instanceMethod y ∈ lw_all) (hini : Cond.initialized y.cls ∈ lw_all)
    (hd : owner ≠ "java/lang/invoke/MethodHandle" ∧ owner ≠ "java/lang/invoke/VarHandle" ∧ (parseMethodDescriptor x.desc).map (fun d => d.parameters.length) = some n) (hR : zc_rm R d1 maxL)
    (hn : As.length = n) (hsize : ls.size = nL) {st0 : List Value} (hst : st0 = As.reverse ++ .ref a :: rest) (hcat : (rest.map fun v => v.category).sum ≤ 8) (hdg : decode cc pc = .ok (.invokevirtual idx, 3)) (hf : cells + c1 ≤ R.cells ∧ slots + s1 ≤ R.slots) :
    vx_Run p l e R s m args below meth c H locs cells slots c1 s1 (F0 m pc ls st0) rest (zc_Q D cA P QR (Value.ref a :: As).toArray) (zc_X D cA P XR) P := by
  have hc : Cond.code y bytes maxL ret' ∈ ws_ y bytes maxL ret' := List.mem_cons_self
  exact vx_runU (zc_fix X) hM ⟨⟨rfl, rfl, by show d1 + 8 + 1 ≤ R.frames; omega, by show 8 + (maxL + 11) + (10240 + 40 * d1) ≤ R.locals; omega, pay_in X.2.2.2.2.1 hG, hc⟩, X.2.2.2.2.1 _ (hG _ hc).1, zc_ini X hini, ⟨hd.1, hd.2.1⟩, fun sig h9 => by
    have h2 := hd.2.2
    rw [h9] at h2
    exact (Option.some.inj h2).symm, hlink, hsame, hdecl, hsel, X.2.2.2.2.1 _ hinst⟩ (zc_preV X hH ht h0 hC) rfl hn hsize hst (by show 2 * 0 + _ ≤ 8; omega) hdg hf
theorem zc_declC (X : zc_Cx p l s m args meth c cc nL ret own D cA P G) {y : MethodName} {b0 : ByteArray} {m0 : Nat} {r0 : Option FieldType} (h1 : Cond.instanceMethod y ∈ lw_all) (h0 : Cond.code y b0 m0 r0 ∈ lw_all) : va_Decl s y := va_Decl.of (X.2.2.2.2.1 _ h1) (X.2.2.2.2.1 _ h0)
theorem zc_declA (X : zc_Cx p l s m args meth c cc nL ret own D cA P G) {y : MethodName} (h1 : y ∈ zc_decl) : va_Decl s y := va_Decl.abs (X.2.2.2.2.2.2.2.2.2.2.2.2.2.2.2.2.2.2.2.2.2.2.2.1 _ h1)
theorem zc_selT (X : zc_Cx p l s m args meth c cc nL ret own D cA P G) {x y : MethodName} {owner C : String} (ho : owner ≠ "java/lang/invoke/MethodHandle" ∧ owner ≠ "java/lang/invoke/VarHandle") (h1 : (Cond.sameMethod x.cls owner x.name x.desc).before args s = true) (h2 : Cond.selects C ⟨owner, x.name, x.desc⟩ y ∈ lw_all) : (Cond.selects C x y).before args s = true := by
  have h2 := X.2.2.2.2.1 _ h2
  obtain ⟨cR', ck, r, hcR', hck, hniR, hfound, hnamed⟩ := Cond.sameMethod_found h1
  have e1 : s.methodFound? owner x.name x.desc = s.methodFound? x.cls x.name x.desc := (State.methodFound?_of_named hnamed ho).trans hfound.symm
  simp only [Cond.before, Cond.holds, Cond.value] at h2 ⊢
  rw [e1] at h2
  exact h2
theorem zc_clsAt (X : zc_Cx p l s m args meth c cc nL ret own D cA P G) (hH : zc_H D cA P h s H locs) {a t : Nat} {C : String} (ht : zt h a = t) (h0 : t ≠ 0) (h20 : t < 20) (hC : zc_nmT t = C) : ∃ cC, ClassAt s C cC := by
  obtain ⟨hat, -⟩ := hH.1 a (by omega)
  rcases hat with ⟨ci, r, g1, g2, g3, -⟩ | ⟨k, g1, g2, g3⟩
  · obtain ⟨hS, hfc, kC, hkC, hkind⟩ := X.2.2.2.2.2.2.2.2.1.1 ci _ g2
    have e1 : C = r.1 := by
      rw [← hC, ← ht, g1]; exact zc_nmci ci r g2
    exact ⟨_, by rw [e1]; exact hfc, kC, hkC, hkind⟩
  · omega
theorem zc_rSU (X : zc_Cx p l s m args meth c cc nL ret own D cA P G) (hH : zc_H D cA P h s H locs) {y : MethodName} {bytes : ByteArray} {maxL d1 c1 s1 n idx : Nat} {ret' : Option FieldType} {As : List Value} {a t : Nat} {C : String} (ht : zt h a = t) (h0 : t ≠ 0) (h20 : t < 20) (hC : zc_nmT t = C)
    (hM : zc_M l y (ws_ y bytes maxL ret') d1 D cA P G (.ref a :: As) h c1 s1 QR XR) (hG : GoodIn lw_all (va_wsSU own idx y (ws_ y bytes maxL ret'))) (hd : y.name ≠ "<init>" ∧ (parseMethodDescriptor y.desc).map (fun d => d.parameters.length) = some n) (hR : zc_rm R d1 maxL)
    (hn : As.length = n) (hsize : ls.size = nL) {st0 : List Value} (hst : st0 = As.reverse ++ .ref a :: rest) (hcat : (rest.map fun v => v.category).sum ≤ 8) (hdg : decode cc pc = .ok (.invokespecial idx, 3)) (hf : cells + c1 ≤ R.cells ∧ slots + s1 ≤ R.slots) :
    vx_Run p l e R s m args below meth c H locs cells slots c1 s1 (F0 m pc ls st0) rest (zc_Q D cA P QR (Value.ref a :: As).toArray) (zc_X D cA P XR) P := by
  obtain ⟨cC, hat⟩ := zc_clsAt X hH ht h0 h20 hC
  exact vx_runSU hat (zc_fix X) hM (va_cwSU n X.2.2.2.2.1 hG rfl rfl rfl hd ⟨by show d1 + 8 + 1 ≤ R.frames; omega, by show 8 + (maxL + 11) + (10240 + 40 * d1) ≤ R.locals; omega⟩) (zc_preV X hH ht h0 hC) rfl hn hsize hst (by show 2 * 0 + _ ≤ 8; omega) hdg hf
theorem zc_rF (X : zc_Cx p l s m args meth c cc nL ret own D cA P G) (hH : zc_H D cA P h s H locs) {x y : MethodName} {bytes : ByteArray} {maxL d1 c1 s1 n idx cnt : Nat} {ret' : Option FieldType} {As : List Value} {a t : Nat} {C : String} (ht : zt h a = t) (h0 : t ≠ 0) (h20 : t < 20) (hC : zc_nmT t = C)
    (hM : zc_M l y (ws_ y bytes maxL ret') d1 D cA P G (.ref a :: As) h c1 s1 QR XR) (hG : GoodIn lw_all (va_wsF own idx C x y (ws_ y bytes maxL ret'))) (hfw : (C, x, y) ∈ zc_fw) (hd : x.cls ≠ "java/lang/invoke/MethodHandle" ∧ x.cls ≠ "java/lang/invoke/VarHandle" ∧ (parseMethodDescriptor x.desc).map (fun d => d.parameters.length) = some n) (hR : zc_rm R d1 maxL)
    (hn : As.length = n) (hsize : ls.size = nL) {st0 : List Value} (hst : st0 = As.reverse ++ .ref a :: rest) (hcat : (rest.map fun v => v.category).sum ≤ 8) (hdg : decode cc pc = .ok (.invokeinterface idx cnt, 5)) (hf : cells + c1 ≤ R.cells ∧ slots + s1 ≤ R.slots) :
    vx_Run5 p l e R s m args below meth c H locs cells slots c1 s1 (F0 m pc ls st0) rest (zc_Q D cA P QR (Value.ref a :: As).toArray) (zc_X D cA P XR) P := by
  obtain ⟨cC, hat⟩ := zc_clsAt X hH ht h0 h20 hC
  exact vx_runF hat (zc_fix X) hM (va_cwF n X.2.2.2.2.1 hG rfl rfl rfl (X.2.2.2.2.2.2.2.2.2.2.2.2.2.2.2.2.2.2.2.2.2.2.2.2.1 _ hfw) hd ⟨by show d1 + 8 + 1 ≤ R.frames; omega, by show 8 + (maxL + 11) + (10240 + 40 * d1) ≤ R.locals; omega⟩) (zc_preV X hH ht h0 hC) rfl hn hsize hst (by show 2 * 0 + _ ≤ 8; omega) hdg hf
end ZC7
theorem zc_xw_t : zc_xw.all (fun w => decide (w ∈ lw_tbl)) = true := by decide +kernel
theorem zc_xw_g : zc_xw.all (fun w => vx_ot w) = true := by decide +kernel
section ZX
variable {p : Program} {l : Launch} {e : Env} {R : Room} {s : State} {m : MethodId} {args : Array Value} {below : List Frame} {meth : Method} {c : Code} {H : Heap} {locs : List Loc} {cells slots : Nat} {Q : State → Prop}
variable {cc : ByteArray} {nL pc : Nat} {ret : Option FieldType} {own : String} {ls : Array Slot} {rest : List Value} {D : va_G} {cA : Nat → ClassId} {P : Nat → Prop} {G : Nat × Nat × Nat} {h : ZH} {cr sr : Nat}
variable {QR : Option Value → ZH → Prop} {XR : String → Nat → ZH → Prop}
theorem zc_keepH (hH : zc_H D cA P h s H locs) {H1 : Heap} (ho : ∀ q : Nat, q < H.size → H1[q]? = H[q]?) (hS : va_S P s.heap H1 locs) : zc_H D cA P h s H1 locs :=
  ⟨fun a ha => ⟨(hH.1 a ha).1.kept (ho a (hH.1 a ha).1.lt), (hH.1 a ha).2⟩, hS⟩
theorem zc_KA (X : zc_Cx p l s m args meth c cc nL ret own D cA P G) {L : List Cond} (hs : ∀ w ∈ L, w ∈ zc_xw) : ∀ w ∈ L, w.before args s = true := by
  intro w hw
  have h := X.2.2.2.2.2.2.2.2.2.2.2.2.2.2.2.2.2.2.2.2.2.2.2.2.2.2.2.2.2.2 w (hs w hw)
  have hg := List.all_eq_true.mp zc_xw_g w (hs w hw)
  exact vx_ot_at (State.WarmedH.refl s) rfl hg h
theorem zc_sN : ∀ w ∈ zc_wN, w ∈ zc_xw := fun w h => List.mem_append_left _ h
theorem zc_sI : ∀ w ∈ zc_wI, w ∈ zc_xw := fun w h => List.mem_append_right _ (List.mem_append_left _ h)
theorem zc_sC : ∀ w ∈ zc_wC, w ∈ zc_xw := fun w h => List.mem_append_right _ (List.mem_append_right _ (List.mem_append_left _ h))
theorem zc_sS : ∀ w ∈ zc_wS, w ∈ zc_xw := fun w h => List.mem_append_right _ (List.mem_append_right _ (List.mem_append_right _ (List.mem_append_left _ h)))
theorem zc_sG : ∀ w ∈ zc_wG, w ∈ zc_xw := fun w h => List.mem_append_right _ (List.mem_append_right _ (List.mem_append_right _ (List.mem_append_right _ (List.mem_append_left _ h))))
theorem zc_sE : ∀ w ∈ zc_wE, w ∈ zc_xw := fun w h => List.mem_append_right _ (List.mem_append_right _ (List.mem_append_right _ (List.mem_append_right _ (List.mem_append_right _ (List.mem_append_left _ h)))))
theorem zc_sR : ∀ w ∈ zc_wR, w ∈ zc_xw := fun w h => List.mem_append_right _ (List.mem_append_right _ (List.mem_append_right _ (List.mem_append_right _ (List.mem_append_right _ (List.mem_append_right _ h)))))
theorem zc_got {L : List Cond} (hs : ∀ w ∈ L, w ∈ zc_xw) : ∀ w ∈ L, vx_ot w = true := fun w hw => List.all_eq_true.mp zc_xw_g w (hs w hw)
theorem zc_ktch (X : zc_Cx p l s m args meth c cc nL ret own D cA P G) {fr to tg ix : Nat} (hT : c.exceptionTable.toList = tableOf [(fr, to, tg, ix)]) (hpc : fr ≤ pc ∧ pc < to) (hix : ix ≠ 0) {E : String} {ce : Cell} {q : Addr} (hl : Cond.classLink own ix E ∈ lw_all) (hc : (Cond.castable E E).before args s = true) (hcell : H[q]? = some ce) (hv : ce.vm = .none) (hcl : s.vm.findClass E = some ce.cls)
    (kk : W p l e R s m args below meth c H locs cells slots Q (F0 m tg ls [.ref q])) : vx_W p l e R s m args below meth c H locs cells slots Q (F0 m pc ls rest) q := by
  obtain ⟨hx, hb, hml, hown, hts, -, -, -, hK⟩ := X
  exact vx_catch hown [] _ [] hT (fun z hz => by cases hz) (by simp [covers, hpc]) hix (hts _ hl) hc hcell hv hcl kk
/-- the machine's NullPointerException, as an object -/
theorem zx_noteN (X : zc_Cx p l s m args meth c cc nL ret own D cA P G) (hH : zc_H D cA P h s H locs) (hB : cells + cr ≤ R.cells ∧ slots + sr ≤ R.slots) (hR : 8 ≤ R.frames ∧ 10240 + 8 ≤ R.locals) (hc1 : 1 ≤ cr) (hs1 : 1000 ≤ sr) (hsz : ls.size = nL) (hcat : (rest.map fun v => v.category).sum ≤ 8)
    (kk : ∀ (H1 : Heap) (q9 : Addr) (ce : Cell), zc_H D cA P h s H1 locs → cells + 1 + (cr - 1) ≤ R.cells ∧ slots + 8 + (sr - 1000) ≤ R.slots → H1[q9]? = some ce → ce.vm = .none → s.vm.findClass "java/lang/NullPointerException" = some ce.cls → vx_W p l e R s m args below meth c H1 locs (cells + 1) (slots + 8) Q (F0 m pc ls rest) q9) :
    vx_NoteN p l e R s m args below meth c H locs cells slots Q (F0 m pc ls rest) := by
  refine vx_npe (A := P) X.1 X.2.2.2.2.2.2.2.1 (nb := 8) (zc_KA X zc_sN) (zc_got zc_sN) X.2.2.2.2.2.2.2.2.2.2.2.2.2.2.2.2.2.2.2.1 X.2.2.2.2.2.2.2.2.2.2.2.2.2.2.2.2.2.2.2.2.1 hH.2 (hsz.trans X.2.2.1.symm) (by omega) (by omega) (by omega) (by omega) X.2.2.2.2.2.2.1 fun H1 q9 ce _ ho hS hce hv hcl => ?_
  exact kk H1 q9 ce (zc_keepH hH ho hS) (by omega) hce hv hcl
theorem zx_note (X : zc_Cx p l s m args meth c cc nL ret own D cA P G) (hH : zc_H D cA P h s H locs) (hB : cells + cr ≤ R.cells ∧ slots + sr ≤ R.slots) (hR : 8 ≤ R.frames ∧ 10240 + 8 ≤ R.locals) (hc1 : 3 ≤ cr) (hs1 : 1010 ≤ sr) (hsz : ls.size = nL) (hcat : (rest.map fun v => v.category).sum ≤ 8)
    {E text : String} {names : List String} (hs : ∀ w ∈ vx_atM E names, w ∈ zc_xw) (hE : Bundle.fit E = true) (hn : ∀ n ∈ names, Bundle.fit n = true) (hl3 : names.length ≤ 3) (h1 : (E == "java/lang/StackOverflowError") = false) (h2 : (E == "java/lang/OutOfMemoryError") = false) (htx : (text == notModelled) = false) (hnb : (stringBytes (stringToUtf16 text)).size ≤ 1000)
    (kk : ∀ (H1 : Heap) (q9 : Addr) (ce : Cell), zc_H D cA P h s H1 locs → cells + 3 + (cr - 3) ≤ R.cells ∧ slots + 1010 + (sr - 1010) ≤ R.slots → H1[q9]? = some ce → ce.vm = .none → s.vm.findClass E = some ce.cls → vx_W p l e R s m args below meth c H1 locs (cells + 3) (slots + 1010) Q (F0 m pc ls rest) q9) :
    vx_Note p l e R s m args below meth c H locs cells slots Q (F0 m pc ls rest) E text := by
  refine vx_vm (A := P) X.1 X.2.2.2.2.2.2.2.1 (nb := 1000) (names := names) hE hn h1 h2 (zc_KA X hs) (zc_got hs) X.2.2.2.2.2.2.2.2.2.2.2.2.2.2.2.2.2.2.2.1 X.2.2.2.2.2.2.2.2.2.2.2.2.2.2.2.2.2.2.2.2.1 hH.2 (hsz.trans X.2.2.1.symm) htx hnb (Nat.le_refl _) (by omega) (by omega) (by omega) (by omega) (by omega) X.2.2.2.2.2.2.1 fun H1 q9 ce _ ho hS hce hv hcl => ?_
  exact kk H1 q9 ce (zc_keepH hH ho hS) (by omega) hce hv hcl
/-- arraylength of null, caught -/
theorem zx_npe (X : zc_Cx p l s m args meth c cc nL ret own D cA P G) (hH : zc_H D cA P h s H locs) (hB : cells + cr ≤ R.cells ∧ slots + sr ≤ R.slots) (hR : 8 ≤ R.frames ∧ 10240 + 8 ≤ R.locals) (hc1 : 1 ≤ cr) (hs1 : 1000 ≤ sr) (hsz : ls.size = nL) (hcat : (rest.map fun v => v.category).sum ≤ 8)
    {fr to tg ix : Nat} (hT : c.exceptionTable.toList = tableOf [(fr, to, tg, ix)]) (hpc : fr ≤ pc ∧ pc < to) (hix : ix ≠ 0) (hl : Cond.classLink own ix "java/lang/NullPointerException" ∈ lw_all) (hdg : decode cc pc = .ok (.arraylength, 1))
    (kk : ∀ (q9 : Nat) (H1 : Heap), zc_H D cA P h s H1 locs → cells + 1 + (cr - 1) ≤ R.cells ∧ slots + 8 + (sr - 1000) ≤ R.slots → W p l e R s m args below meth c H1 locs (cells + 1) (slots + 8) Q (F0 m tg ls [.ref q9])) : W p l e R s m args below meth c H locs cells slots Q (F0 m pc ls (.null :: rest)) :=
  vx_arraylengthN X.1 X.2.1 hdg (zx_noteN X hH hB hR hc1 hs1 hsz hcat fun H1 q9 ce hH1 hB1 hce hv hcl => zc_ktch X hT hpc hix hl (zc_KA X zc_sN _ (by decide +kernel)) hce hv hcl (kk q9 H1 hH1 hB1))
/-- aaload outside its bounds, caught -/
theorem zx_aioobe (X : zc_Cx p l s m args meth c cc nL ret own D cA P G) (hH : zc_H D cA P h s H locs) (hB : cells + cr ≤ R.cells ∧ slots + sr ≤ R.slots) (hR : 8 ≤ R.frames ∧ 10240 + 8 ≤ R.locals) (hc1 : 3 ≤ cr) (hs1 : 1010 ≤ sr) (hsz : ls.size = nL) (hcat : (rest.map fun v => v.category).sum ≤ 8)
    {a : Nat} (ks : List Nat) (ht : zt h a ∈ ks) (hks : ks.all (fun t => decide (22 ≤ t) && decide (t < 28)) = true) {i : Int32} (hout : ¬ vp_in i (zl h a)) (hlen : zl h a < 2147483648)
    {fr to tg ix : Nat} (hT : c.exceptionTable.toList = tableOf [(fr, to, tg, ix)]) (hpc : fr ≤ pc ∧ pc < to) (hix : ix ≠ 0) (hl : Cond.classLink own ix "java/lang/ArrayIndexOutOfBoundsException" ∈ lw_all) (hdg : decode cc pc = .ok (.aaload, 1))
    (kk : ∀ (q9 : Nat) (H1 : Heap), zc_H D cA P h s H1 locs → cells + 3 + (cr - 3) ≤ R.cells ∧ slots + 1010 + (sr - 1010) ≤ R.slots → W p l e R s m args below meth c H1 locs (cells + 3) (slots + 1010) Q (F0 m tg ls [.ref q9])) : W p l e R s m args below meth c H locs cells slots Q (F0 m pc ls (.int i :: .ref a :: rest)) := by
  have h0 := List.all_eq_true.mp hks _ ht
  simp only [Bool.and_eq_true, decide_eq_true_eq] at h0
  obtain ⟨t1, t2⟩ := h0
  obtain ⟨k, hk, hk2, ht⟩ : ∃ k, k < 8 ∧ 2 ≤ k ∧ zt h a = 20 + k := ⟨zt h a - 20, by omega, by omega, by omega⟩
  obtain ⟨hc, -⟩ := zc_arr hH hk ht
  have harr := (zc_Kty X hk).1 (zl h a) (fun j => zc_el h k a j)
  generalize htx : (toString "Index " ++ toString i ++ toString " out of bounds for length " ++ toString (zl h a) : String) = tx
  have hb : (tx == notModelled) = false ∧ (stringBytes (stringToUtf16 tx)).size ≤ 1000 := by
    rw [← htx]
    exact ⟨index_text_modelled i _, Nat.le_trans (index_text_bytes i hlen) (by decide)⟩
  have hnote := zx_note (R := R) (Q := Q) (pc := pc) (ls := ls) (rest := rest) X hH hB hR hc1 hs1 hsz hcat (text := tx) zc_sI (by decide +kernel) (by decide +kernel) (by decide) (by decide) (by decide) hb.1 hb.2 fun H1 q9 ce hH1 hB1 hce hv hcl => zc_ktch X hT hpc hix hl (zc_KA X zc_sI _ (by decide +kernel)) hce hv hcl (kk q9 H1 hH1 hB1)
  intro T hT9 X1
  obtain ⟨t, st, q⟩ := hnote T hT9 X1
  refine ⟨t, ?_, q⟩
  have h1 := X1.aaloadOut X.1 (by rw [hT9]; exact hc) harr (j := i) (by show (i < 0 ∨ (arrV _ _ _).slots.size ≤ _); rw [arrV_size]; exact Classical.byContradiction hout) (g := F0 m pc ls (.int i :: .ref a :: rest)) rfl (rest := rest) rfl (by rw [X.2.1]; exact hdg) t
  simp only [arrV_size] at h1
  rw [← htx] at st
  exact h1 st
/-- checkcast that fails, caught -/
theorem zx_cce (X : zc_Cx p l s m args meth c cc nL ret own D cA P G) (hH : zc_H D cA P h s H locs) (hB : cells + cr ≤ R.cells ∧ slots + sr ≤ R.slots) (hR : 8 ≤ R.frames ∧ 10240 + 8 ≤ R.locals) (hc1 : 3 ≤ cr) (hs1 : 1010 ≤ sr) (hsz : ls.size = nL) (hcat : (rest.map fun v => v.category).sum ≤ 7)
    {r : Option Nat} {cs ns : List Nat} {nm : String} (hA : ∀ b, r = some b → zt h b ∈ cs ++ ns) (hno : ¬ ∀ b, r = some b → zt h b ∈ cs) (hnm : nm = "ChurchyardBook$Grave") (hnn : zc_nok nm ns = true) (hns : ns = [2, 3]) {idx : Nat} (hl9 : Cond.classLink own idx nm ∈ lw_all)
    {fr to tg ix : Nat} (hT_ : c.exceptionTable.toList = tableOf [(fr, to, tg, ix)]) (hpc : fr ≤ pc ∧ pc < to) (hix : ix ≠ 0) (hl : Cond.classLink own ix "java/lang/ClassCastException" ∈ lw_all) (hdg : decode cc pc = .ok (.checkcast idx, 3))
    (kk : ∀ (q9 : Nat) (H1 : Heap), zc_H D cA P h s H1 locs → cells + 3 + (cr - 3) ≤ R.cells ∧ slots + 1010 + (sr - 1010) ≤ R.slots → W p l e R s m args below meth c H1 locs (cells + 3) (slots + 1010) Q (F0 m tg ls [.ref q9])) : W p l e R s m args below meth c H locs cells slots Q (F0 m pc ls (va_rf r :: rest)) := by
  obtain ⟨b, rfl, hb1⟩ : ∃ b, r = some b ∧ ¬ zt h b ∈ cs := by
    by_cases hq : ∃ b, r = some b ∧ ¬ zt h b ∈ cs
    · exact hq
    · exact absurd (fun b e => Classical.byContradiction fun w => hq ⟨b, e, w⟩) hno
  have hb2 : zt h b ∈ ns := (List.mem_append.mp (hA b rfl)).elim (fun w => absurd w hb1) id
  have hnot : (zc_nmT (zt h b), nm) ∈ zc_nots := by
    have := List.all_eq_true.mp hnn _ hb2
    simpa using this
  subst hns; subst hnm
  have ht23 : zt h b = 2 ∨ zt h b = 3 := by simpa using hb2
  have hN0 : zc_nmT (zt h b) = "ChurchyardBook$Tree" ∨ zc_nmT (zt h b) = "ChurchyardBook$Way" := by rcases ht23 with e | e <;> rw [e]; exact Or.inl rfl; exact Or.inr rfl
  obtain ⟨cell, g1, g2, g3⟩ := zc_cell X hH (a := b) (by omega)
  obtain ⟨cC, hcA, kB, hkB, hord⟩ := zc_clsAt X hH (a := b) rfl (by omega) (by omega) rfl
  cases hcA.symm.trans g3
  have hts := X.2.2.2.2.1
  have hown := X.2.2.2.1
  have hx := X.1
  have hmod : modulesRight_1 s = true := X.2.2.2.2.2.2.2.2.2.2.2.2.2.2.2.2.2.2.2.2.2.1
  intro T hT X1
  have hpl : e.platform.magicAccessors = ({} : Platform).magicAccessors := by rw [X1.admits.platform]
  obtain ⟨cT, hcT, hcl⟩ := Cond.classLink_spec hown (hts _ hl9) e.platform hpl
  obtain ⟨dk, _, _, kt, hd, _, _, _, _, hkt, _, hopen⟩ := hcl.here
  have hcl₀ := X1.warmed.classLinks hcl
  have hW' : s.WarmedH (T.vm.noted m.cls idx (.cls cT)) := X1.warmed.noted hd hopen (State.rightAt_cls hcl)
  obtain ⟨ks', hks', eks⟩ := hW'.alike.2.2 _ _ hkB
  obtain ⟨kt', hkt', ekt⟩ := hW'.alike.2.2 _ _ hkt
  have hna : (T.vm.noted m.cls idx (.cls cT)).assignable cell.cls cT = false := by
    obtain ⟨c8, t8, i1, i2, i3⟩ := X.2.2.2.2.2.2.2.2.2.2.1 _ hnot
    cases i1.symm.trans g3
    cases i2.symm.trans hcT
    rw [hW'.alike.assignable]; exact i3
  have hordT : kt.kind = .ordinary := by
    have hS := (X.2.2.2.2.2.2.2.2.1.1 7 _ (rfl : zc_cl[7]? = some ((RX10, TX10, 16) : vw_C))).2.1
    obtain ⟨p8, k8, kp8, i1, i2, i3, i4, i5, i6, i7⟩ := Cond.superclass_spec hS (hts _ q734)
    cases i1.symm.trans hcT
    cases i3.symm.trans hkt
    exact i6
  have hmsg := zc_cceT (U := T.setVm (T.vm.noted m.cls idx (.cls cT))) (zc_modules hW'.alike hmod) hN0 (by show (T.vm.noted m.cls idx (.cls cT)).findClass _ = _; rw [hW'.alike.findClass]; exact g3) hks' (by rw [eks]; exact hord) (by show (T.vm.noted m.cls idx (.cls cT)).findClass _ = _; rw [hW'.alike.findClass]; exact hcT) hkt' (by rw [ekt]; exact hordT)
  have hnote := zx_note (R := R) (Q := Q) (pc := pc) (ls := ls) (rest := .ref b :: rest) X hH hB hR hc1 hs1 hsz (by simp only [List.map_cons, List.sum_cons]; show 1 + _ ≤ 8; omega) (text := Op.checkcast.message (T.vm.noted m.cls idx (.cls cT)) ks' kt') zc_sC (by decide +kernel) (by decide +kernel) (by decide) (by decide) (by decide) hmsg.1 hmsg.2 fun H1 q9 ce hH1 hB1 hce hv hcl => zc_ktch X hT_ hpc hix hl (zc_KA X zc_sC _ (by decide +kernel)) hce hv hcl (kk q9 H1 hH1 hB1)
  obtain ⟨t, st, q⟩ := hnote (T.setVm (T.vm.noted m.cls idx (.cls cT))) hT (X1.noted hW')
  refine ⟨t, ?_, q⟩
  have hdg' : decode c.code pc = .ok (.checkcast idx, 3) := by rw [X.2.1]; exact hdg
  show Steps p.tables e below (T.setTop (F0 m pc ls (.ref b :: rest))) t
  jvm_step X1.here [hx, hdg', Op.checkcast.wp_cold (e := e) (s := T) (f := F0 m pc ls (.ref b :: rest)) X1.here.top rfl (resolveClass_links e.toSetting hcl₀) hcl₀.ready,
    Op.checkcast.wp_ready (e := e) (s := T.setVm (T.vm.noted m.cls idx (.cls cT))) (f := F0 m pc ls (.ref b :: rest)) X1.here.top hcl₀.ready rfl]
  refine ⟨cell, by rw [hT]; exact g1, fun z hz => (by rw [g2] at hz; cases hz), ks', hks', kt', hkt', ?_⟩
  rw [if_neg (by rw [hna]; decide)]
  exact st
theorem zc_compN (X : zc_Cx p l s m args meth c cc nL ret own D cA P G) {k : Nat} (hk : 3 ≤ k ∧ k ≤ 6) : ∃ (kA : Class) (comp : ClassId) (kc : Class) (nm : String), s.vm.classes[cA k]? = some kA ∧ kA.kind = .array comp (zc_aty k) ∧ s.vm.classes[comp]? = some kc ∧ s.vm.findClass nm = some comp ∧ ([2, 3, 8, 9, 10, 11, 12, 13] : List Nat).all (fun t => (zas k).contains t || decide ((zc_nmT t, nm) ∈ zc_nots)) = true := by
  have h1 := (zc_Kty X (k := k) (by omega)).2
  rcases (show k = 3 ∨ k = 4 ∨ k = 5 ∨ k = 6 by omega) with rfl | rfl | rfl | rfl
  all_goals
    obtain ⟨kA, comp, k1, k2, k3, -⟩ := h1
    obtain ⟨kc, k4, -⟩ := Vm.findClass_spec k3
    exact ⟨kA, comp, kc, _, k1, k2, k4, k3, by decide +kernel⟩
/-- aastore of an object of another kind, caught -/
theorem zx_ase (X : zc_Cx p l s m args meth c cc nL ret own D cA P G) (hH : zc_H D cA P h s H locs) (hB : cells + cr ≤ R.cells ∧ slots + sr ≤ R.slots) (hR : 8 ≤ R.frames ∧ 10240 + 8 ≤ R.locals) (hc1 : 3 ≤ cr) (hs1 : 1010 ≤ sr) (hsz : ls.size = nL) (hcat : (rest.map fun v => v.category).sum ≤ 8)
    {a : Nat} (hta : zt h a ∈ [23, 24, 25, 26]) {r : Option Nat} {v : Value} (hv9 : v = va_rf r) {i : Int32} (hin : vp_in i (zl h a)) (hA : ∀ b, r = some b → zt h b ∈ [2, 3, 8, 9, 10, 11, 12, 13]) (hno : ¬ ∀ b, r = some b → zt h b ∈ zas (zt h a - 20))
    {fr to tg ix : Nat} (hT : c.exceptionTable.toList = tableOf [(fr, to, tg, ix)]) (hpc : fr ≤ pc ∧ pc < to) (hix : ix ≠ 0) (hl : Cond.classLink own ix "java/lang/ArrayStoreException" ∈ lw_all) (hdg : decode cc pc = .ok (.aastore, 1))
    (kk : ∀ (q9 : Nat) (H1 : Heap), zc_H D cA P h s H1 locs → cells + 3 + (cr - 3) ≤ R.cells ∧ slots + 1010 + (sr - 1010) ≤ R.slots → W p l e R s m args below meth c H1 locs (cells + 3) (slots + 1010) Q (F0 m tg ls [.ref q9])) : W p l e R s m args below meth c H locs cells slots Q (F0 m pc ls (v :: .int i :: .ref a :: rest)) := by
  obtain ⟨b, rfl, hb1⟩ : ∃ b, r = some b ∧ ¬ zt h b ∈ zas (zt h a - 20) := by
    by_cases hq : ∃ b, r = some b ∧ ¬ zt h b ∈ zas (zt h a - 20)
    · exact hq
    · exact absurd (fun b e => Classical.byContradiction fun w => hq ⟨b, e, w⟩) hno
  subst hv9
  have hb2 := hA b rfl
  have hlt : i.toNatClampNeg < zl h a := Nat.not_le.mp fun q => hin (Or.inr q)
  obtain ⟨k, hk, hk2, ht⟩ : ∃ k, k < 8 ∧ 2 ≤ k ∧ zt h a = 20 + k := ⟨zt h a - 20, by simp at hta; omega, by simp at hta; omega, by simp at hta; omega⟩
  have hk3 : 3 ≤ k ∧ k ≤ 6 := by simp at hta; omega
  rw [ht, Nat.add_sub_cancel_left] at hb1
  obtain ⟨hc, -⟩ := zc_arr hH hk ht
  have harr := (zc_Kty X hk).1 (zl h a) (fun j => zc_el h k a j)
  obtain ⟨kA, comp, kc, nm, k1, k2, k3, k4, k5⟩ := zc_compN X hk3
  have hzb : zt h b ≠ 0 := by simp at hb2; omega
  have hzb2 : zt h b < 20 := by simp at hb2; omega
  obtain ⟨cv, g1, g2, g3⟩ := zc_cell X hH hzb
  obtain ⟨kv, hkv, -⟩ := Vm.findClass_spec g3
  have hshown : kv.shown = dotted (zc_nmT (zt h b)) := zc_shown g3 hkv
  have hx := X.1
  have htext : ((kv.shown) == notModelled) = false ∧ (stringBytes (stringToUtf16 kv.shown)).size ≤ 1000 := by
    rw [hshown]
    simp only [List.mem_cons, List.not_mem_nil, or_false] at hb2
    rcases hb2 with e | e | e | e | e | e | e | e <;> rw [e] <;> decide +kernel
  have hna : s.vm.assignable cv.cls comp = false := by
    have h9 := List.all_eq_true.mp k5 _ hb2
    rw [Bool.or_eq_true] at h9
    rcases h9 with h9 | h9
    · exact absurd (by simpa using h9) hb1
    · obtain ⟨c8, t8, i1, i2, i3⟩ := X.2.2.2.2.2.2.2.2.2.2.1 _ (of_decide_eq_true h9)
      cases i1.symm.trans g3
      cases i2.symm.trans k4
      exact i3
  have hnote := zx_note (R := R) (Q := Q) (pc := pc) (ls := ls) (rest := rest) X hH hB hR hc1 hs1 hsz hcat (text := kv.shown) zc_sS (by decide +kernel) (by decide +kernel) (by decide) (by decide) (by decide) htext.1 htext.2 fun H1 q9 ce hH1 hB1 hce hv hcl => zc_ktch X hT hpc hix hl (zc_KA X zc_sS _ (by decide +kernel)) hce hv hcl (kk q9 H1 hH1 hB1)
  intro T hT9 X1
  obtain ⟨t, st, q⟩ := hnote T hT9 X1
  refine ⟨t, ?_, q⟩
  have hdg' : decode c.code pc = .ok (.aastore, 1) := by rw [X.2.1]; exact hdg
  have al := X1.warmed.alike
  obtain ⟨kA', hkA', eA⟩ := al.2.2 _ _ k1
  obtain ⟨kv', hkv', ev⟩ := al.2.2 _ _ hkv
  obtain ⟨kc', hkc', ec⟩ := al.2.2 _ _ k3
  have hcT : T.heap[a]? = some (arrV (cA k) (zl h a) (fun j => zc_el h k a j)) := by rw [hT9]; exact hc
  have hvT : T.heap[b]? = some cv := by rw [hT9]; exact g1
  have hsh : kv'.shown = kv.shown := by rw [ev]; rfl
  have hkindA : kA'.kind = .array comp (zc_aty k) := by rw [eA]; exact k2
  have hna' : T.vm.assignable cv.cls comp = false := by rw [al.assignable]; exact hna
  have hisA : T.isArray (arrV (cA k) (zl h a) (fun j => zc_el h k a j)) := (State.isArrayOf_alike al harr).isArray
  have hni : ¬ (i < 0 ∨ (arrV (cA k) (zl h a) (fun j => zc_el h k a j)).slots.size ≤ i.toNatClampNeg) := by rw [arrV_size]; exact hin
  have hcl9 : T.vm.classes[(arrV (cA k) (zl h a) (fun j => zc_el h k a j)).cls]? = some kA' := hkA'
  have htop := X1.here.top
  have hvm9 : ∀ q, (arrV (cA k) (zl h a) (fun j => zc_el h k a j)).vm ≠ .statics q := fun q h => by cases h
  have hcv9 : ∀ q, cv.vm ≠ .statics q := fun q h => by rw [g2] at h; cases h
  show Steps p.tables e below (T.setTop (F0 m pc ls (.ref b :: .int i :: .ref a :: rest))) t
  jvm_step X1.here [hx, hdg', Op.aastore.sem, htop, hcT, hisA, hni]
  refine ⟨hvm9, kA', hcl9, ?_⟩
  simp [hkindA, htop, hvT, hcv9, hkv', hkc', hna', hsh]
  intro acts
  exact st
/-- anewarray of less than no elements, leaving the method -/
theorem zx_nase {C S d : Nat} {QC : Array Value → State → Outcome → State → Prop} (X : zc_Cx p l s m args meth c cc nL ret own D cA P G) (hH : zc_H D cA P h s H locs) (hB : cells + cr ≤ C ∧ slots + sr ≤ S) (hT : c.exceptionTable.toList = tableOf []) (hc1 : 3 ≤ cr) (hs1 : 1010 ≤ sr) (hsz : ls.size = nL) (hcat : (rest.map fun v => v.category).sum ≤ 8)
    {n : Int32} (hn : n < 0) {idx : Nat} {nm : String} (hl : Cond.classLink own idx nm ∈ lw_all) (hnm : nm ∈ ["java/lang/Object", "ChurchyardBook$Place", "ChurchyardBook$Grave", "ChurchyardBook$Wall", "ChurchyardBook$Deep"]) (hd1 : 1 ≤ d) (hF : ∀ q9 : Nat, XR "java/lang/NegativeArraySizeException" q9 h) (hdg : decode cc pc = .ok (.anewarray idx, 3)) :
    W p l e (zc_Ro d C S) s m args below meth c H locs cells slots (vx_MQ below QC (zc_X D cA P XR) args s C S P) (F0 m pc ls (.int n :: rest)) := by
  have hao := hnm
  have hts := X.2.2.2.2.1
  have hown := X.2.2.2.1
  have hx := X.1
  have hnote := zx_note (e := e) (R := zc_Ro d C S) (Q := vx_MQ below QC (zc_X D cA P XR) args s C S P) (pc := pc) (ls := ls) (rest := rest) X hH hB ⟨by show 8 ≤ d + 8; omega, by show 10240 + 8 ≤ 10240 + 40 * d; omega⟩ hc1 hs1 hsz hcat (text := toString n) zc_sG (by decide +kernel) (by decide +kernel) (by decide) (by decide) (by decide) (negative_text_modelled hn) (Nat.le_trans (negative_text_bytes n) (by decide)) fun H1 q9 ce hH1 hB1 hce hv hcl => zc_out (e := e) X hH1 hB1 (by rw [hT]; intro x hx9; cases hx9) hce hv hcl (hF q9)
  intro T hT9 X1
  have hpl : e.platform.magicAccessors = ({} : Platform).magicAccessors := by rw [X1.admits.platform]
  obtain ⟨comp, cA', kA, hcomp, hidx, hkA, hkindA, hnameA⟩ := Cond.arrayOver_spec (va_AO.use (A := args) (X.2.2.2.2.2.2.2.2.2.2.2.2.2.1 _ hao))
  obtain ⟨kComp, hkComp, -⟩ := Vm.findClass_spec hcomp
  obtain ⟨cc', hfcc, hcl⟩ := Cond.classLink_spec hown (hts _ hl) e.platform hpl
  cases hcomp.symm.trans hfcc
  obtain ⟨hg₁, hwarm₁, hready₁⟩ := State.classEntry (e := e) X1.warmed hcl
  generalize T.vm.noted m.cls idx (.cls comp) = vm₁ at hg₁ hwarm₁ hready₁
  have hal : s.vm.Alike vm₁ := hwarm₁.alike
  obtain ⟨kComp₁, hkComp₁, -⟩ := hal.2.2 _ _ hkComp
  have hidx₁ : (vm₁.classes.findIdx? fun x => match x.kind with | .array component _ => component == comp | _ => false) = some cA' := by
    rw [hal.findIdx?_eq _ (fun _ => rfl)]; exact hidx
  obtain ⟨t, st, q⟩ := hnote (T.setVm vm₁) hT9 (X1.noted hwarm₁)
  refine ⟨t, ?_, q⟩
  have hdg' : decode c.code pc = .ok (.anewarray idx, 3) := by rw [X.2.1]; exact hdg
  have top2 : (T.setVm vm₁).topJava?.isSome := X1.here.top
  have m2 := State.method?_setTop (F0 m pc ls (.int n :: rest)) top2
  show Steps p.tables e below (T.setTop (F0 m pc ls (.int n :: rest))) t
  have wp2 : ∀ (Q : Unit → Pre) (E : CtlPost) (d : Bool) (acts : List Action), Sem.wp (Op.anewarray.sem idx) Q E e d acts ((T.setVm vm₁).setTop (F0 m pc ls (.int n :: rest))) ↔ E (.throwNew "java/lang/NegativeArraySizeException" (some (toString n))) acts ((T.setVm vm₁).setTop (F0 m pc ls rest)) := by
    intro Q E d acts
    simp [Op.anewarray.sem, W.resolveClassAt_ready m2 hready₁,
    W.arrayClassOf'_ready (s := (T.setVm vm₁).setTop (F0 m pc ls (.int n :: rest))) (show ((T.setVm vm₁).setTop (F0 m pc ls (.int n :: rest))).vm.classes[comp]? = some kComp₁ from hkComp₁) (show (((T.setVm vm₁).setTop (F0 m pc ls (.int n :: rest))).vm.classes.findIdx? _) = some cA' from hidx₁), State.topJava?_setTop' _ top2, hn]
  jvm_step X1.here [hx, hdg', Op.anewarray.wp_cold (e := e) (s := T) (f := F0 m pc ls (.int n :: rest)) X1.here.top hg₁ hready₁, wp2]
  exact st
/-- throw new NoSuchElementException() -/
theorem zx_nsee {C S d : Nat} {QC : Array Value → State → Outcome → State → Prop} (X : zc_Cx p l s m args meth c cc nL ret "ChurchyardBook" D cA P G) (hH : zc_H D cA P h s H locs) (hB : cells + cr ≤ C ∧ slots + sr ≤ S) (hT : c.exceptionTable.toList = tableOf []) (hc1 : 1 ≤ cr) (hs1 : 6 ≤ sr) (hsz : ls.size = nL) (hcat : (rest.map fun v => v.category).sum ≤ 8)
    {ik : Nat} (hl : Cond.classLink "ChurchyardBook" ik "java/util/NoSuchElementException" ∈ lw_all) (hini : Cond.initialized "java/util/NoSuchElementException" ∈ lw_all) (hF : ∀ q9 : Nat, XR "java/util/NoSuchElementException" q9 h)
    (d0 : decode cc pc = .ok (.new ik, 3)) (d3 : decode cc (pc + 3) = .ok (.dup, 1)) (d4 : decode cc (pc + 4) = .ok (.invokespecial 179, 3)) (d7 : decode cc (pc + 7) = .ok (.athrow, 1)) :
    W p l e (zc_Ro d C S) s m args below meth c H locs cells slots (vx_MQ below QC (zc_X D cA P XR) args s C S P) (F0 m pc ls rest) := by
  refine vx_throw0 (A := P) X.1 X.2.1 X.2.2.2.2.2.2.2.1 (names := ["java/lang/RuntimeException", "java/lang/Exception"]) X.2.2.2.1 (by decide +kernel) (by decide +kernel) (X.2.2.2.2.1 _ hl) (X.2.2.2.2.1 _ hini) (zc_KA X zc_sE) (fun w hw => ?_) X.2.2.2.2.2.2.2.2.2.2.2.2.2.2.2.2.2.2.2.1 X.2.2.2.2.2.2.2.2.2.2.2.2.2.2.2.2.2.2.2.2.1 hH.2 (hsz.trans X.2.2.1.symm) d0 d3 d4 d7 (by rw [hT]; intro x hx; cases hx) (by show 2 + 3 < d + 8; omega) (by show _ + (13 * (2 + 1) + 42) ≤ 10240 + 40 * d; omega) (by show cells + 1 ≤ C; omega) (by show slots + 6 ≤ S; omega) X.2.2.2.2.2.2.1 (fun t ht hz ho => ?_) hH.2.2.2 (by omega) (by omega)
  · rcases List.mem_cons.mp hw with rfl | hw
    · exact Bool.or_eq_true_iff.mpr (Or.inr (List.mem_filter.mp hl).2)
    · rcases List.mem_cons.mp hw with rfl | hw
      · exact Bool.or_eq_true_iff.mpr (Or.inr (List.mem_filter.mp hini).2)
      · exact zc_got zc_sE w hw
  · exact ⟨⟨h, hF _, fun a ha => ⟨(hH.1 a ha).1.kept (ho a (hH.1 a ha).1.lt), (hH.1 a ha).2⟩⟩, Nat.le_trans hH.2.1 hz, fun q h1 h2 => (ho q (Nat.lt_of_lt_of_le h1 hH.2.1)).trans (hH.2.2.1 q h1 h2)⟩
end ZX
