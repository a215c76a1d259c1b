set_option maxRecDepth 100000
/-! the words that the machine's own exceptions ask for -/
theorem gEXw_on : ∀ w ∈ gEXw, w.onTables = true := by decide +kernel
theorem at_NPE : ∀ w ∈ (vx_atN 8).filter goodWord, w ∈ lw_all := lw_in _ [71, 273, 215, 235, 238, 240, 274, 275, 97, 98, 209, 214, 236, 243, 267, 244, 268, 245, 269, 210, 212, 270, 232, 222, 223, 310, 312, 229, 230, 301, 302, 303, 304, 304, 305, 306, 307, 307, 308, 309, 274, 76, 227, 323, 221, 318, 319, 321, 241, 271, 316] (by decide +kernel) (by decide +kernel)
theorem hat_NPE {args : Array Value} {s : State} (hts : ∀ w ∈ lw_all, w.before args s = true) (hE : gEX s) : ∀ w ∈ vx_atN 8, w.before args s = true := vx_hat (B := gEXw) (fun w h => hts _ (at_NPE w h)) (by decide +kernel) (fun w h => va_Nw.use (gEXw_on w h) (hE.1 w h))
theorem hgd_NPE : ∀ w ∈ vx_atN 8, vx_ot w = true := by decide +kernel
theorem at_NASE : ∀ w ∈ (vx_atM "java/lang/NegativeArraySizeException" ["java/lang/RuntimeException", "java/lang/Exception"]).filter goodWord, w ∈ lw_all := lw_in _ [71, 273, 215, 235, 238, 240, 274, 275, 97, 98, 209, 214, 236, 243, 267, 244, 268, 245, 269, 210, 212, 270, 207, 208, 242, 270, 198, 199, 200, 201, 201, 202, 203, 204, 204, 205, 206, 207, 75, 276, 277, 278, 280, 279, 281, 74, 197, 266, 220, 250, 252, 256, 248, 241, 271, 246] (by decide +kernel) (by decide +kernel)
theorem hat_NASE {args : Array Value} {s : State} (hts : ∀ w ∈ lw_all, w.before args s = true) (hE : gEX s) : ∀ w ∈ vx_atM "java/lang/NegativeArraySizeException" ["java/lang/RuntimeException", "java/lang/Exception"], w.before args s = true := vx_hat (B := gEXw) (fun w h => hts _ (at_NASE w h)) (by decide +kernel) (fun w h => va_Nw.use (gEXw_on w h) (hE.1 w h))
theorem hgd_NASE : ∀ w ∈ vx_atM "java/lang/NegativeArraySizeException" ["java/lang/RuntimeException", "java/lang/Exception"], vx_ot w = true := by decide +kernel
theorem at_AIOOBE : ∀ w ∈ (vx_atM "java/lang/ArrayIndexOutOfBoundsException" ["java/lang/IndexOutOfBoundsException", "java/lang/RuntimeException", "java/lang/Exception"]).filter goodWord, w ∈ lw_all := lw_in _ [71, 273, 215, 235, 238, 240, 274, 275, 97, 98, 209, 214, 236, 243, 267, 244, 268, 245, 269, 210, 212, 270, 207, 208, 242, 270, 327, 328, 329, 330, 330, 331, 332, 201, 201, 202, 203, 204, 204, 205, 206, 207, 75, 276, 277, 278, 280, 279, 281, 78, 326, 343, 218, 335, 336, 338, 334, 241, 271, 333] (by decide +kernel) (by decide +kernel)
theorem hat_AIOOBE {args : Array Value} {s : State} (hts : ∀ w ∈ lw_all, w.before args s = true) (hE : gEX s) : ∀ w ∈ vx_atM "java/lang/ArrayIndexOutOfBoundsException" ["java/lang/IndexOutOfBoundsException", "java/lang/RuntimeException", "java/lang/Exception"], w.before args s = true := vx_hat (B := gEXw) (fun w h => hts _ (at_AIOOBE w h)) (by decide +kernel) (fun w h => va_Nw.use (gEXw_on w h) (hE.1 w h))
theorem hgd_AIOOBE : ∀ w ∈ vx_atM "java/lang/ArrayIndexOutOfBoundsException" ["java/lang/IndexOutOfBoundsException", "java/lang/RuntimeException", "java/lang/Exception"], vx_ot w = true := by decide +kernel
theorem at_ARITH : ∀ w ∈ (vx_atM "java/lang/ArithmeticException" ["java/lang/RuntimeException", "java/lang/Exception"]).filter goodWord, w ∈ lw_all := lw_in _ [71, 273, 215, 235, 238, 240, 274, 275, 97, 98, 209, 214, 236, 243, 267, 244, 268, 245, 269, 210, 212, 270, 207, 208, 242, 270, 367, 368, 369, 201, 201, 202, 203, 204, 204, 205, 206, 207, 75, 276, 277, 278, 280, 279, 281, 80, 366, 378, 217, 372, 373, 375, 371, 241, 271, 370] (by decide +kernel) (by decide +kernel)
theorem hat_ARITH {args : Array Value} {s : State} (hts : ∀ w ∈ lw_all, w.before args s = true) (hE : gEX s) : ∀ w ∈ vx_atM "java/lang/ArithmeticException" ["java/lang/RuntimeException", "java/lang/Exception"], w.before args s = true := vx_hat (B := gEXw) (fun w h => hts _ (at_ARITH w h)) (by decide +kernel) (fun w h => va_Nw.use (gEXw_on w h) (hE.1 w h))
theorem hgd_ARITH : ∀ w ∈ vx_atM "java/lang/ArithmeticException" ["java/lang/RuntimeException", "java/lang/Exception"], vx_ot w = true := by decide +kernel
theorem at_CCE : ∀ w ∈ (vx_atM "java/lang/ClassCastException" ["java/lang/RuntimeException", "java/lang/Exception"]).filter goodWord, w ∈ lw_all := lw_in _ [71, 273, 215, 235, 238, 240, 274, 275, 97, 98, 209, 214, 236, 243, 267, 244, 268, 245, 269, 210, 212, 270, 207, 208, 242, 270, 587, 588, 589, 201, 201, 202, 203, 204, 204, 205, 206, 207, 75, 276, 277, 278, 280, 279, 281, 88, 586, 598, 219, 592, 593, 595, 591, 241, 271, 590] (by decide +kernel) (by decide +kernel)
theorem hat_CCE {args : Array Value} {s : State} (hts : ∀ w ∈ lw_all, w.before args s = true) (hE : gEX s) : ∀ w ∈ vx_atM "java/lang/ClassCastException" ["java/lang/RuntimeException", "java/lang/Exception"], w.before args s = true := vx_hat (B := gEXw) (fun w h => hts _ (at_CCE w h)) (by decide +kernel) (fun w h => va_Nw.use (gEXw_on w h) (hE.1 w h))
theorem hgd_CCE : ∀ w ∈ vx_atM "java/lang/ClassCastException" ["java/lang/RuntimeException", "java/lang/Exception"], vx_ot w = true := by decide +kernel
/-! methods that catch what the machine throws -/
def EXH (as : List Nat) (U : State) : Prop := vx_Zq Bundle.tN "UNASSIGNED_STACK" Bundle.steD (gA as U.heap.size) U U.heap ∧ vx_Zq Bundle.tN "SUPPRESSED_SENTINEL" Bundle.listD (gA as U.heap.size) U U.heap
def GPreX (D : va_G) (ct : Nat → ClassId) (as : List Nat) (ws : va_W × Prop) (sz : Nat) (av : List Value) : Array Value → State → Prop := fun v U => GPre gEX D ct as ws sz av v U ∧ EXH as U
/-- nothing leaves by an exception -/
def XNo : String → State → State → Prop := vx_X (S := Unit) (fun _ => False) (fun _ _ _ => True) (fun _ => False)
theorem gX_blind {D : va_G} {ct : Nat → ClassId} {as : List Nat} {ws : va_W × Prop} {sz : Nat} {av : List Value} : FrameBlind (GPreX D ct as ws sz av) := fun a U g mk q =>
  ⟨g_blind gEX_ok a U g mk q.1, ⟨vx_Zq.moved (u := U) (U := U.calling g mk a) (Vm.Alike.refl U.vm) q.2.1, vx_Zq.moved (u := U) (U := U.calling g mk a) (Vm.Alike.refl U.vm) q.2.2⟩⟩
section EXW
variable {p : Program} {l : Launch} {e : Env} {R : Room} {s : State} {m : MethodId} {args : Array Value} {below : List Frame} {meth : Method} {c : Code} {H : Heap} {locs : List Loc} {cells slots : Nat} {Q : State → Prop}
variable {cc bytes : ByteArray} {pc nL maxL idx mc ms sz b : Nat} {ls : Array Slot} {rest av st0 : List Value} {lv : List (Nat × Value)} {D : va_G} {ct : Nat → ClassId} {A : Nat → Prop} {as as0 as1 : List Nat} {H0 : Heap} {ws ws1 : va_W × Prop} {own C : String} {y : MethodName} {ret : Option FieldType} {rm : Room} {hh : List (Nat × Nat × Nat × Nat)}
theorem gx_met {Qc : Array Value → State → Outcome → State → Prop} {free : Addr → Prop} (hy : plainName y.cls = true) (hn : (lg_sl av).length ≤ maxL)
    (body : ∀ (p : Program) (e : Env) (s : State) (m : MethodId) (args : Array Value) (below : List Frame) (meth : Method) (c : Code) (ls : Array Slot), CallFix p m c cc maxL s args lw_all y.cls → meth.sig.returnType = ret → meth.locks = false → va_K D clA (tysG ct) s → GH D (gA as s.heap.size) as s.heap ws s.heap [] → gEX s → EXH as s → s.heap.size = sz → c.exceptionTable.toList = tableOf hh → lv_has ls maxL (lv_args 0 av) →
      W p l e rm s m args below meth c s.heap [] 0 0 (vx_MQ below Qc XNo args s mc ms free) (F0 m 0 ls [])) : vx_Met l y (wsW_ y cc maxL ret hh) rm (GPreX D ct as ws sz av) Qc XNo mc ms free := by
  refine vx_ofWH (cc := cc) (maxL := maxL) (ret := ret) (hh := hh) hy rfl ?_
  intro p e s m args below meth c s₁ B hml hv
  obtain ⟨⟨rfl, hsz, hP, hK, hD, hE, hX⟩, hZ⟩ := hv
  have hts0 := atoms_spec (ws := wsW_ y cc maxL ret hh) B.pre
  have hts : ∀ w ∈ lw_all, w.before _ s = true := fun w h => hts0 w (List.mem_cons_of_mem _ h)
  have hown := findClass_of_methodNamed B.named
  have hl := lv_entry av (n := maxL) hn
  have htb := vx_table (x := y) B (hts0 _ List.mem_cons_self)
  rw [lg_entry_eq]
  exact body p e s m _ below meth c _ ⟨B.exec, B.bytes, hml, hown, hts⟩ B.returns B.notSynchronized hK ⟨hP, hD, va_S.rf, fun q h => Or.inl h, fun q h => Or.inr h, hX⟩ hE hZ hsz htb hl
theorem gX_pre (hE : gEX s) (hK : va_K D clA (tysG ct) s) (hH : GH D A as H0 ws H locs) (hZ : vx_Zq Bundle.tN "UNASSIGNED_STACK" Bundle.steD (gA as H.size) s H ∧ vx_Zq Bundle.tN "SUPPRESSED_SENTINEL" Bundle.listD (gA as H.size) s H) : PreS s H (GPreX D ct as ws H.size av) av :=
  ⟨gX_blind, fun U hU hW => ⟨(g_pre gEX_ok hE hK hH).2 U hU hW, by rw [EXH, hU]; exact ⟨vx_Zq.moved hW.alike hZ.1, vx_Zq.moved hW.alike hZ.2⟩⟩⟩
/-- the call of a method that catches: an int -/
theorem gx_calli {v : Int32} (S : CallFix p m c cc nL s args lw_all own) (hl : lv_has ls nL lv) (hE : gEX s) (hK : va_K D clA (tysG ct) s) (hH : GH D A as H0 ws H locs) (hZ : vx_Zq Bundle.tN "UNASSIGNED_STACK" Bundle.steD (gA as H.size) s H ∧ vx_Zq Bundle.tN "SUPPRESSED_SENTINEL" Bundle.listD (gA as H.size) s H) (hM : vx_Met l y (wsW_ y bytes maxL ret hh) rm (GPreX D ct as ws H.size (.ref b :: av)) (GQi D as as1 ws1 H.size v) XNo mc ms (gA as H.size))
    (hG : GoodIn lw_all (wsV own idx C y (wsW_ y bytes maxL ret hh))) (hrc : rm.cells = mc) (hrs : rm.slots = ms) (hd : y.cls = C ∧ y.cls ≠ "java/lang/invoke/MethodHandle" ∧ y.cls ≠ "java/lang/invoke/VarHandle" ∧ (parseMethodDescriptor y.desc).map (fun d => d.parameters.length) = some av.length) (hR : rm.frames + 1 ≤ R.frames ∧ 8 + (maxL + 11) + rm.locals ≤ R.locals)
    (hb : ∃ cellB : Cell, H[b]? = some cellB ∧ cellB.vm.isStatics = false ∧ s.vm.findClass C = some cellB.cls) (hn : ∀ q, q ∈ as1 → gA as H.size q)
    (hst : st0 = av.reverse ++ .ref b :: rest) (hsum : (rest.map fun v => v.category).sum ≤ 8) (hdg : decode cc pc = .ok (.invokevirtual idx, 3)) (hf : cells + mc ≤ R.cells ∧ slots + ms ≤ R.slots)
    (k : ∀ (H1 : Heap) (locs1 : List Loc), GH D A as1 H0 ws1 H1 locs1 → W p l e R s m args below meth c H1 locs1 (cells + mc) (slots + ms) Q (F0 m (pc + 3) ls (.int v :: rest))) : W p l e R s m args below meth c H locs cells slots Q (F0 m pc ls st0) := by
  have hp := gX_pre (av := .ref b :: av) hE hK hH hZ
  have hsub := g_sub hH.2.2.1 hH.2.2.2.1 hH.2.2.2.2.1
  refine vx_calli (A0 := A) (AX := fun _ => False) (px := fun _ : Unit => False) (BX := fun _ _ _ => True) (vx_runVX (As := av) (rest := rest) S hM (vx_cwVW av.length S.2.2.2.2 hG rfl hrc hrs hd hR) ⟨hp.1, hb, hp.2⟩ rfl rfl hl.1 hst (lv_room hsum) hdg hf) hH.2.2.1 (fun q _ h => hsub q h) hsub (fun _ _ h => h.elim) (fun E ce q9 u t H1 locs1 _ _ hF => hF.elim) (fun r u t H1 locs1 ht hvm hr hB hz hk hS => ?_)
  subst hr
  obtain ⟨hP1, hD1, hX1⟩ := hB
  rw [ht] at hP1
  exact k H1 locs1 (g_new hH hP1 hD1 hX1 hS hn)
/-- the heap has grown, nothing of the world has changed -/
theorem g_grow {H1 : Heap} (hH : GH D A as H0 ws H locs) (ho : ∀ q : Nat, q < H.size → H1[q]? = H[q]?) (hS : va_S A H0 H1 locs) : GH D A as H0 ws H1 locs :=
  ⟨hH.1.kept (fun k q hk => ho _ (hH.1 k q hk).lt), hH.2.1, hS, hH.2.2.2⟩
/-- a NullPointerException, caught -/
theorem cx_npe (S : CallFix p m c cc nL s args lw_all own) (hfl : l.stackTraces = false) (hlk : meth.locks = false) (hl : lv_has ls nL lv) (hE : gEX s) (hZ : EXH as s) (hH : GH D (gA as s.heap.size) as s.heap ws H locs) (hR : 8 ≤ R.frames ∧ 10300 ≤ R.locals) (hsum : (rest.map fun v => v.category).sum ≤ 8) (hf : cells + 1 ≤ R.cells ∧ slots + 8 ≤ R.slots)
    (pre : List ExceptionTableEntry) (x : ExceptionTableEntry) (suf : List ExceptionTableEntry) (htb : c.exceptionTable.toList = pre ++ x :: suf) (hpass : ∀ z ∈ pre, covers z pc = false ∨ (z.catchType ≠ 0 ∧ ∃ nm : String, (Cond.classLink own z.catchType nm).before args s = true ∧ va_Nc "java/lang/NullPointerException" nm s)) (hcov : covers x pc = true) (h0 : x.catchType ≠ 0) (hlink : Cond.classLink own x.catchType "java/lang/NullPointerException" ∈ lw_all)
    (k : ∀ (H1 : Heap) (q : Nat), GH D (gA as s.heap.size) as s.heap ws H1 locs → W p l e R s m args below meth c H1 locs (cells + 1) (slots + 8) Q (F0 m x.handlerPc ls [.ref q])) : vx_NoteN p l e R s m args below meth c H locs cells slots Q (F0 m pc ls rest) := by
  refine vx_npe S.1 hfl (hat_NPE S.2.2.2.2 hE) hgd_NPE hZ.1 hZ.2 hH.2.2.1 (by rw [S.2.2.1]; exact hl.1) (by omega) (by omega) hf.1 hf.2 hlk (fun H1 q9 ce hz ho hS hq hv hc => ?_)
  exact vx_catch S.2.2.2.1 pre x suf htb hpass hcov h0 (S.2.2.2.2 _ hlink) (va_Nw.use rfl (hE.1 _ (List.mem_of_getElem? (i := 10) rfl))) hq hv hc (k H1 q9 (g_grow hH ho hS))
/-- an exception with a text, caught -/
theorem cx_msg {X N text : String} {names : List String} {nb : Nat} (hat : ∀ w ∈ vx_atM X names, w.before args s = true) (hgood : ∀ w ∈ vx_atM X names, vx_ot w = true) (hcls : Bundle.fit X = true) (hnames : ∀ n ∈ names, Bundle.fit n = true) (hsoe : (X == "java/lang/StackOverflowError") = false) (hoom : (X == "java/lang/OutOfMemoryError") = false) (hlen : names.length ≤ 3) (htext : (text == notModelled) = false) (hnb : (stringBytes (stringToUtf16 text)).size ≤ nb) (hnb1 : nb ≤ 1000) (hca : va_Nw (.castable X N) s)
    (S : CallFix p m c cc nL s args lw_all own) (hfl : l.stackTraces = false) (hlk : meth.locks = false) (hl : lv_has ls nL lv) (hZ : EXH as s) (hH : GH D (gA as s.heap.size) as s.heap ws H locs) (hR : 8 ≤ R.frames ∧ 10300 ≤ R.locals) (hsum : (rest.map fun v => v.category).sum ≤ 8) (hf : cells + 3 ≤ R.cells ∧ slots + (nb + 10) ≤ R.slots)
    (pre : List ExceptionTableEntry) (x : ExceptionTableEntry) (suf : List ExceptionTableEntry) (htb : c.exceptionTable.toList = pre ++ x :: suf) (hpass : ∀ z ∈ pre, covers z pc = false ∨ (z.catchType ≠ 0 ∧ ∃ nm : String, (Cond.classLink own z.catchType nm).before args s = true ∧ va_Nc X nm s)) (hcov : covers x pc = true) (h0 : x.catchType ≠ 0) (hlink : Cond.classLink own x.catchType N ∈ lw_all)
    (k : ∀ (H1 : Heap) (q : Nat), GH D (gA as s.heap.size) as s.heap ws H1 locs → W p l e R s m args below meth c H1 locs (cells + 3) (slots + (nb + 10)) Q (F0 m x.handlerPc ls [.ref q])) : vx_Note p l e R s m args below meth c H locs cells slots Q (F0 m pc ls rest) X text := by
  refine vx_vm S.1 hfl hcls hnames hsoe hoom hat hgood hZ.1 hZ.2 hH.2.2.1 (by rw [S.2.2.1]; exact hl.1) htext hnb hnb1 (by omega) (by omega) (by omega) hf.1 hf.2 hlk (fun H1 q9 ce hz ho hS hq hv hc => ?_)
  exact vx_catch S.2.2.2.1 pre x suf htb hpass hcov h0 (S.2.2.2.2 _ hlink) (va_Nw.use rfl hca) hq hv hc (k H1 q9 (g_grow hH ho hS))
end EXW
def xrN (s : XS) (j : Nat) : Nat := match xr s j with
  | some q => q.1
  | none => 0
section EXW2
variable {p : Program} {l : Launch} {e : Env} {R : Room} {s : State} {m : MethodId} {args : Array Value} {below : List Frame} {meth : Method} {c : Code} {H : Heap} {locs : List Loc} {cells slots : Nat} {Q : State → Prop}
variable {cc bytes : ByteArray} {pc nL maxL idx mc ms sz b : Nat} {ls : Array Slot} {rest av st0 : List Value} {lv : List (Nat × Value)} {D : va_G} {ct : Nat → ClassId} {A : Nat → Prop} {as as0 as1 : List Nat} {H0 : Heap} {ws ws1 : va_W × Prop} {own C : String} {y : MethodName} {ret : Option FieldType} {rm : Room} {a : XA} {ρ : Option Nat} {st st1 : XS} {i x v : Int32} {j : Nat}
/-- a method without handlers that calls one with -/
theorem gy_met {Qc : Array Value → State → Outcome → State → Prop} {free : Addr → Prop} (hy : plainName y.cls = true) (hn : (lg_sl av).length ≤ maxL)
    (body : ∀ (p : Program) (e : Env) (s : State) (m : MethodId) (args : Array Value) (below : List Frame) (meth : Method) (c : Code) (ls : Array Slot), CallFix p m c cc maxL s args lw_all y.cls → meth.sig.returnType = ret → meth.locks = false → va_K D clA (tysG ct) s → GH D (gA as s.heap.size) as s.heap ws s.heap [] → gEX s → EXH as s → s.heap.size = sz → lv_has ls maxL (lv_args 0 av) →
      W p l e rm s m args below meth c s.heap [] 0 0 (MQ below Qc args s mc ms free) (F0 m 0 ls [])) : Met l y (ws_ y cc maxL ret) rm (GPreX D ct as ws sz av) Qc mc ms free := by
  refine Met.ofW (cc := cc) (maxL := maxL) (ret := ret) hy rfl ?_
  intro p e s m args below meth c s₁ B hml hv
  obtain ⟨⟨rfl, hsz, hP, hK, hD, hE, hX⟩, hZ⟩ := hv
  have hts0 := atoms_spec (ws := ws_ y cc maxL ret) B.pre
  have hts : ∀ w ∈ lw_all, w.before _ s = true := fun w h => hts0 w (List.mem_cons_of_mem _ h)
  have hown := findClass_of_methodNamed B.named
  have hl := lv_entry av (n := maxL) hn
  rw [lg_entry_eq]
  exact body p e s m _ below meth c _ ⟨B.exec, B.bytes, hml, hown, hts⟩ B.returns B.notSynchronized hK ⟨hP, hD, va_S.rf, fun q h => Or.inl h, fun q h => Or.inr h, hX⟩ hE hZ hsz hl
theorem gy_calli {v : Int32} (S : CallFix p m c cc nL s args lw_all own) (hl : lv_has ls nL lv) (hE : gEX s) (hK : va_K D clA (tysG ct) s) (hH : GH D A as H0 ws H locs) (hZ : vx_Zq Bundle.tN "UNASSIGNED_STACK" Bundle.steD (gA as H.size) s H ∧ vx_Zq Bundle.tN "SUPPRESSED_SENTINEL" Bundle.listD (gA as H.size) s H) (hM : Met l y (ws_ y bytes maxL ret) rm (GPreX D ct as ws H.size (.ref b :: av)) (GQi D as as1 ws1 H.size v) mc ms (gA as H.size))
    (hG : GoodIn lw_all (wsV own idx C y (ws_ y bytes maxL ret))) (hrc : rm.cells = mc) (hrs : rm.slots = ms) (hd : y.cls = C ∧ y.cls ≠ "java/lang/invoke/MethodHandle" ∧ y.cls ≠ "java/lang/invoke/VarHandle" ∧ (parseMethodDescriptor y.desc).map (fun d => d.parameters.length) = some av.length) (hR : rm.frames + 1 ≤ R.frames ∧ 8 + (maxL + 11) + rm.locals ≤ R.locals)
    (hb : ∃ cellB : Cell, H[b]? = some cellB ∧ cellB.vm.isStatics = false ∧ s.vm.findClass C = some cellB.cls) (hn : ∀ q, q ∈ as1 → gA as H.size q)
    (hst : st0 = av.reverse ++ .ref b :: rest) (hsum : (rest.map fun v => v.category).sum ≤ 8) (hdg : decode cc pc = .ok (.invokevirtual idx, 3)) (hf : cells + mc ≤ R.cells ∧ slots + ms ≤ R.slots)
    (k : ∀ (H1 : Heap) (locs1 : List Loc), GH D A as1 H0 ws1 H1 locs1 → W p l e R s m args below meth c H1 locs1 (cells + mc) (slots + ms) Q (F0 m (pc + 3) ls (.int v :: rest))) : W p l e R s m args below meth c H locs cells slots Q (F0 m pc ls st0) := by
  have hp := gX_pre (av := .ref b :: av) hE hK hH hZ
  have hsub := g_sub hH.2.2.1 hH.2.2.2.1 hH.2.2.2.2.1
  refine va_calli (va_runV (As := av) (rest := rest) S hM (cwV av.length S.2.2.2.2 hG rfl hrc hrs hd hR) ⟨hp.1, hb, hp.2⟩ rfl rfl hl.1 hst (lv_room hsum) hdg hf) hH.2.2.1 (fun q _ h => hsub q h) hsub (fun r u t H1 locs1 ht hvm hr hB hz hk hS => ?_)
  subst hr
  obtain ⟨hP1, hD1, hX1⟩ := hB
  rw [ht] at hP1
  exact k H1 locs1 (g_new hH hP1 hD1 hX1 hS hn)
theorem xr_null (hH : GH D A (xAs a) H0 (WX ct a ρ st) H locs) (hj : j < 10) (c1 : ¬ (xr st j).isSome = true) : ar a j = none := by
  rw [← xo_r hH hj] at c1
  cases h : ar a j with
  | none => rfl
  | some q => rw [h] at c1; exact absurd rfl c1
theorem xr_some (c1 : (xr st j).isSome = true) : ∃ n f, xr st j = some (n, f) ∧ xrN st j = n := by
  obtain ⟨⟨n, f⟩, h⟩ := Option.isSome_iff_exists.mp c1
  exact ⟨n, f, h, by unfold xrN; rw [h]⟩
theorem bs_in_no {n : Nat} (h : ¬ bs_in i n = true) : ¬ vp_in i n := fun q => h (bs_in_of q)
theorem xr_ildN (S : CallFix p m c cc nL s args lw_all own) (hH : GH D A (xAs a) H0 (WX ct a ρ st) H locs) (hj : j < 10) (c1 : ¬ (xr st j).isSome = true) (hdg : decode cc pc = .ok (.iaload, 1)) (k : vx_NoteN p l e R s m args below meth c H locs cells slots Q (F0 m pc ls rest)) : W p l e R s m args below meth c H locs cells slots Q (F0 m pc ls (.int i :: va_rf (ar a j) :: rest)) := by
  rw [xr_null hH hj c1]
  exact vx_ialoadN S.1 S.2.1 hdg k
theorem xr_bldN (S : CallFix p m c cc nL s args lw_all own) (hH : GH D A (xAs a) H0 (WX ct a ρ st) H locs) (hj : j < 10) (c1 : ¬ (xr st j).isSome = true) (hdg : decode cc pc = .ok (.baload, 1)) (k : vx_NoteN p l e R s m args below meth c H locs cells slots Q (F0 m pc ls rest)) : W p l e R s m args below meth c H locs cells slots Q (F0 m pc ls (.int i :: va_rf (ar a j) :: rest)) := by
  rw [xr_null hH hj c1]
  exact vx_baloadN S.1 S.2.1 hdg k
theorem xr_bstN (S : CallFix p m c cc nL s args lw_all own) (hH : GH D A (xAs a) H0 (WX ct a ρ st) H locs) (hj : j < 10) (c1 : ¬ (xr st j).isSome = true) (hdg : decode cc pc = .ok (.bastore, 1)) (k : vx_NoteN p l e R s m args below meth c H locs cells slots Q (F0 m pc ls rest)) : W p l e R s m args below meth c H locs cells slots Q (F0 m pc ls (.int x :: .int i :: va_rf (ar a j) :: rest)) := by
  rw [xr_null hH hj c1]
  exact vx_bastoreN S.1 S.2.1 hdg k
theorem xr_lenN (S : CallFix p m c cc nL s args lw_all own) (hH : GH D A (xAs a) H0 (WX ct a ρ st) H locs) (hj : j < 10) (c1 : ¬ (xr st j).isSome = true) (hdg : decode cc pc = .ok (.arraylength, 1)) (k : vx_NoteN p l e R s m args below meth c H locs cells slots Q (F0 m pc ls rest)) : W p l e R s m args below meth c H locs cells slots Q (F0 m pc ls (va_rf (ar a j) :: rest)) := by
  rw [xr_null hH hj c1]
  exact vx_arraylengthN S.1 S.2.1 hdg k
theorem xr_ildZ (S : CallFix p m c cc nL s args lw_all own) (hK : va_K D clA (tysG ct) s) (hH : GH D A (xAs a) H0 (WX ct a ρ st) H locs) (hj : j < 6) (c1 : (xr st j).isSome = true) (c2 : ¬ bs_in i (xrN st j) = true) (hdg : decode cc pc = .ok (.iaload, 1)) (k : ∀ tx : String, tx = (toString "Index " ++ toString i ++ toString " out of bounds for length " ++ toString (xrN st j) : String) → vx_Note p l e R s m args below meth c H locs cells slots Q (F0 m pc ls rest) "java/lang/ArrayIndexOutOfBoundsException" tx) : W p l e R s m args below meth c H locs cells slots Q (F0 m pc ls (.int i :: va_rf (ar a j) :: rest)) := by
  obtain ⟨n, f, hr, hn⟩ := xr_some c1
  rw [hn] at c2 k
  obtain ⟨q, k0, hq, hat, -⟩ := xr_has hH.2.2.2.2.2 (Nat.lt_of_lt_of_le hj (by decide)) hr
  rw [if_pos hj] at hat
  rw [hq]
  exact vx_ialdZ (cl := clA) S.1 S.2.1 hK hH.1 k0 0 hat rfl (bs_in_no c2) hdg k
theorem xr_bldZ (S : CallFix p m c cc nL s args lw_all own) (hK : va_K D clA (tysG ct) s) (hH : GH D A (xAs a) H0 (WX ct a ρ st) H locs) (hj : j < 4) (c1 : (xr st (6 + j)).isSome = true) (c2 : ¬ bs_in i (xrN st (6 + j)) = true) (hdg : decode cc pc = .ok (.baload, 1)) (k : ∀ tx : String, tx = (toString "Index " ++ toString i ++ toString " out of bounds for length " ++ toString (xrN st (6 + j)) : String) → vx_Note p l e R s m args below meth c H locs cells slots Q (F0 m pc ls rest) "java/lang/ArrayIndexOutOfBoundsException" tx) : W p l e R s m args below meth c H locs cells slots Q (F0 m pc ls (.int i :: va_rf (ar a (6 + j)) :: rest)) := by
  obtain ⟨n, f, hr, hn⟩ := xr_some c1
  rw [hn] at c2 k
  obtain ⟨q, k0, hq, hat, -⟩ := xr_has hH.2.2.2.2.2 (Nat.add_lt_add_left hj 6) hr
  rw [if_neg (by omega)] at hat
  rw [hq]
  exact vx_baldZ (cl := clA) S.1 S.2.1 hK hH.1 k0 2 hat rfl (bs_in_no c2) hdg k
theorem xr_bstZ (S : CallFix p m c cc nL s args lw_all own) (hK : va_K D clA (tysG ct) s) (hH : GH D A (xAs a) H0 (WX ct a ρ st) H locs) (hj : j < 4) (c1 : (xr st (6 + j)).isSome = true) (c2 : ¬ bs_in i (xrN st (6 + j)) = true) (hdg : decode cc pc = .ok (.bastore, 1)) (k : ∀ tx : String, tx = (toString "Index " ++ toString i ++ toString " out of bounds for length " ++ toString (xrN st (6 + j)) : String) → vx_Note p l e R s m args below meth c H locs cells slots Q (F0 m pc ls rest) "java/lang/ArrayIndexOutOfBoundsException" tx) : W p l e R s m args below meth c H locs cells slots Q (F0 m pc ls (.int x :: .int i :: va_rf (ar a (6 + j)) :: rest)) := by
  obtain ⟨n, f, hr, hn⟩ := xr_some c1
  rw [hn] at c2 k
  obtain ⟨q, k0, hq, hat, -⟩ := xr_has hH.2.2.2.2.2 (Nat.add_lt_add_left hj 6) hr
  rw [if_neg (by omega)] at hat
  rw [hq]
  exact vx_bastZ (cl := clA) S.1 S.2.1 hK hH.1 k0 2 hat rfl (bs_in_no c2) hdg k
/-- a place of a row past which an index goes has a length that an array can have -/
theorem xr_short (hH : GH D A (xAs a) H0 (WX ct a ρ st) H locs) (hK : va_K D clA (tysG ct) s) : True := trivial
end EXW2
