/-! rows are copied -/
set_option maxRecDepth 100000
/-- what is wrong with a copy's three ints -/
def cpA (n : Nat) : String := (toString (Native.java_lang_System.arraycopy.kindName FieldType.int) ++ toString "[" ++ toString n ++ toString "]" : String)
def cpFault (n1 n2 : Nat) (sp dp n : Int32) : Option String :=
  if sp < 0 then some (toString "source index " ++ toString sp ++ toString " out of bounds for " ++ toString (cpA n1))
  else if dp < 0 then some (toString "destination index " ++ toString dp ++ toString " out of bounds for " ++ toString (cpA n2))
  else if n < 0 then some (toString "length " ++ toString n ++ toString " is negative")
  else if sp.toInt + n.toInt > n1 then some (toString "last source index " ++ toString (sp.toInt + n.toInt) ++ toString " out of bounds for " ++ toString (cpA n1))
  else if dp.toInt + n.toInt > n2 then some (toString "last destination index " ++ toString (dp.toInt + n.toInt) ++ toString " out of bounds for " ++ toString (cpA n2))
  else none
theorem cp_null1 {U : State} {fs : List Frame} {E0 : CtlPost} {e : Env} {sp dp n : Int32} {v2 : Value} (hE : ∀ acts', E0 (.throwNew "java/lang/NullPointerException" none) acts' (U.setFrames fs)) : wp (arraycopyRow.sem #[.null, .int sp, v2, .int dp, .int n]) (fun _ _ _ _ => False) E0 e false [] (U.setFrames fs) := by
  rw [arraycopyRow_sem]
  show wp (do Jvm.mark "nat.java_lang_System.arraycopy/null"; Jvm.throwNew "java/lang/NullPointerException") _ _ _ _ _ _
  simp only [wp_bind', W.mark, W.throwNew]
  exact hE _
theorem cp_null2 {U : State} {fs : List Frame} {E0 : CtlPost} {e : Env} {sp dp n : Int32} {b : Nat} (hE : ∀ acts', E0 (.throwNew "java/lang/NullPointerException" none) acts' (U.setFrames fs)) : wp (arraycopyRow.sem #[.ref b, .int sp, .null, .int dp, .int n]) (fun _ _ _ _ => False) E0 e false [] (U.setFrames fs) := by
  rw [arraycopyRow_sem]
  show wp (do Jvm.mark "nat.java_lang_System.arraycopy/null"; Jvm.throwNew "java/lang/NullPointerException") _ _ _ _ _ _
  simp only [wp_bind', W.mark, W.throwNew]
  exact hE _
theorem cp_bounds {U : State} {fs : List Frame} {E0 : CtlPost} {e : Env} {sp dp n : Int32} {b1 b2 n1 n2 : Nat} {cs cd : Cell} {k1 k2 : Class} {comp1 comp2 : ClassId} {what : String} (hs : U.heap[b1]? = some cs) (hd : U.heap[b2]? = some cd) (hso : ∀ k, cs.vm ≠ .statics k) (hdo : ∀ k, cd.vm ≠ .statics k) (z1 : cs.slots.size = n1) (z2 : cd.slots.size = n2) (hk1 : U.vm.classes[cs.cls]? = some k1) (hk2 : U.vm.classes[cd.cls]? = some k2) (hkk1 : k1.kind = .array comp1 .int) (hkk2 : k2.kind = .array comp2 .int) (hf : cpFault n1 n2 sp dp n = some what)
    (hE : ∀ acts', E0 (.throwNew "java/lang/ArrayIndexOutOfBoundsException" (some ("arraycopy: " ++ what))) acts' (U.setFrames fs)) : wp (arraycopyRow.sem #[.ref b1, .int sp, .ref b2, .int dp, .int n]) (fun _ _ _ _ => False) E0 e false [] (U.setFrames fs) := by
  have hs' : (U.setFrames fs).heap[b1]? = some cs := hs
  have hd' : (U.setFrames fs).heap[b2]? = some cd := hd
  have hk1' : (U.setFrames fs).vm.classes[cs.cls]? = some k1 := hk1
  have hk2' : (U.setFrames fs).vm.classes[cd.cls]? = some k2 := hk2
  rw [arraycopyRow_sem, Native.java_lang_System.arraycopy.sem_refs]
  unfold Native.java_lang_System.arraycopy.behind
  simp only [wp_bind', W.classOf, W.theClass, hs', hd', hk1', hk2', Option.some.injEq, exists_eq_left', hkk1, hkk2]
  refine ⟨hso, hdo, ?_⟩
  have ht : ((refKind FieldType.int != refKind FieldType.int) || (!refKind FieldType.int && FieldType.int != FieldType.int)) = false := by decide
  unfold refKind at ht
  simp only [ht, Bool.false_eq_true, if_false]
  simp only [wp_bind', W.sizeOf, hs', hd', Option.some.injEq, exists_eq_left', z1, z2]
  unfold cpFault at hf
  unfold cpA at hf
  rw [hf]
  simp only [wp_bind', W.mark, W.throwNew]
  exact hE _
theorem int_print {z : Int} (h : z.natAbs < 10 ^ 10) : (toString z).toList.length ≤ 11 := by
  cases z with
  | ofNat n =>
    have : (toString (Int.ofNat n)) = toString n := rfl
    rw [this]
    exact Nat.le_succ_of_le (nat_print h)
  | negSucc n =>
    have : (toString (Int.negSucc n)) = "-" ++ toString (n + 1) := rfl
    rw [this, String.toList_append, List.length_append]
    have h1 : "-".toList.length = 1 := rfl
    have h2 := nat_print (n := n + 1) h
    omega
theorem cp_text {n1 n2 : Nat} {sp dp n : Int32} {what : String} (h1 : n1 < 2147483648) (h2 : n2 < 2147483648) (hf : cpFault n1 n2 sp dp n = some what) : what.toList.length ≤ 88 := by
  have p1 := nat_print (n := n1) (by omega)
  have p2 := nat_print (n := n2) (by omega)
  have q1 := int32_print sp
  have q2 := int32_print dp
  have q3 := int32_print n
  have r1 := sp.toInt_lt
  have r2 := sp.le_toInt
  have r3 := dp.toInt_lt
  have r4 := dp.le_toInt
  have r5 := n.toInt_lt
  have r6 := n.le_toInt
  have i1 : (toString (sp.toInt + n.toInt)).toList.length ≤ 11 := int_print (by omega)
  have i2 : (toString (dp.toInt + n.toInt)).toList.length ≤ 11 := int_print (by omega)
  have ha : ∀ k : Nat, k < 2147483648 → (cpA k).toList.length ≤ 15 := by
    intro k hk
    have p := nat_print (n := k) (by omega)
    show (toString "int" ++ toString "[" ++ toString k ++ toString "]").toList.length ≤ 15
    simp only [String.toList_append, List.length_append]
    have e1 : (toString "int").toList.length = 3 := rfl
    have e2 : (toString "[").toList.length = 1 := rfl
    have e3 : (toString "]").toList.length = 1 := rfl
    omega
  have a1 := ha n1 h1
  have a2 := ha n2 h2
  have l1 : (toString "source index ").toList.length = 13 := rfl
  have l2 : (toString " out of bounds for ").toList.length = 19 := rfl
  have l3 : (toString "destination index ").toList.length = 18 := rfl
  have l4 : (toString "length ").toList.length = 7 := rfl
  have l5 : (toString " is negative").toList.length = 12 := rfl
  have l6 : (toString "last source index ").toList.length = 18 := rfl
  have l7 : (toString "last destination index ").toList.length = 23 := rfl
  have t1 : toString (cpA n1) = cpA n1 := rfl
  have t2 : toString (cpA n2) = cpA n2 := rfl
  unfold cpFault at hf
  by_cases c1 : sp < 0
  · rw [if_pos c1] at hf
    rw [← Option.some.inj hf, t1]
    simp only [String.toList_append, List.length_append]
    omega
  rw [if_neg c1] at hf
  by_cases c2 : dp < 0
  · rw [if_pos c2] at hf
    rw [← Option.some.inj hf, t2]
    simp only [String.toList_append, List.length_append]
    omega
  rw [if_neg c2] at hf
  by_cases c3 : n < 0
  · rw [if_pos c3] at hf
    rw [← Option.some.inj hf]
    simp only [String.toList_append, List.length_append]
    omega
  rw [if_neg c3] at hf
  by_cases c4 : sp.toInt + n.toInt > n1
  · rw [if_pos c4] at hf
    rw [← Option.some.inj hf, t1]
    simp only [String.toList_append, List.length_append]
    omega
  rw [if_neg c4] at hf
  by_cases c5 : dp.toInt + n.toInt > n2
  · rw [if_pos c5] at hf
    rw [← Option.some.inj hf, t2]
    simp only [String.toList_append, List.length_append]
    omega
  rw [if_neg c5] at hf
  cases hf
theorem cp_bytes {n1 n2 : Nat} {sp dp n : Int32} {what : String} (h1 : n1 < 2147483648) (h2 : n2 < 2147483648) (hf : cpFault n1 n2 sp dp n = some what) : (stringBytes (stringToUtf16 ("arraycopy: " ++ what))).size ≤ 400 := by
  have b1 := stringBytes_size_le (stringToUtf16 ("arraycopy: " ++ what))
  have b2 := utf16_size_le ("arraycopy: " ++ what)
  have b3 := cp_text h1 h2 hf
  rw [String.toList_append, List.length_append] at b2
  have b4 : "arraycopy: ".toList.length = 11 := rfl
  omega
theorem cp_modelled (what : String) : (("arraycopy: " ++ what) == notModelled) = false := by
  rw [beq_eq_false_iff_ne]
  intro h
  have h2 := congrArg String.toList h
  have h3 : ("arraycopy: " ++ what).toList = 'a' :: ("rraycopy: ".toList ++ what.toList) := by
    rw [String.toList_append]
    rfl
  rw [h3] at h2
  have h4 : notModelled.toList = '\u0000' :: " a message that is not modelled".toList := rfl
  rw [h4] at h2
  injection h2 with h5 h6
  exact absurd h5 (by decide)
section XCP
variable {p : Program} {l : Launch} {e : Env} {R : Room} {s : State} {m : MethodId} {args : Array Value} {below : List Frame} {meth : Method} {c : Code} {H : Heap} {locs : List Loc} {cells slots : Nat} {Q : State → Prop}
variable {cc : ByteArray} {pc nL idx : Nat} {ls : Array Slot} {rest : List Value} {lv : List (Nat × Value)} {D : va_G} {ct : Nat → ClassId} {A : Nat → Prop} {as : List Nat} {H0 : Heap} {ws : va_W × Prop} {own : String} {a : XA} {ρ : Option Nat} {st st1 : XS} {j j1 j2 : Nat} {sp dp n : Int32} {f : Nat → Int32}
/-- a native's NullPointerException, caught -/
theorem cn_npe (S : CallFix p m c cc nL s args lw_all own) (hfl : l.stackTraces = false) (hlk : meth.locks = false) (hl : lv_has ls nL lv) (hE : gEX s) (hZ : EXH as s) (hH : GH D (gA as s.heap.size) as s.heap ws H locs) (hR : 9 ≤ R.frames ∧ 10300 ≤ R.locals) (hsum : (rest.map fun v => v.category).sum ≤ 8) (hf : cells + 1 ≤ R.cells ∧ slots + 8 ≤ R.slots)
    (pre : List ExceptionTableEntry) (x : ExceptionTableEntry) (suf : List ExceptionTableEntry) (htb : c.exceptionTable.toList = pre ++ x :: suf) (hpass : ∀ z ∈ pre, covers z pc = false ∨ (z.catchType ≠ 0 ∧ ∃ nm : String, (Cond.classLink own z.catchType nm).before args s = true ∧ va_Nc "java/lang/NullPointerException" nm s)) (hcov : covers x pc = true) (h0 : x.catchType ≠ 0) (hlink : Cond.classLink own x.catchType "java/lang/NullPointerException" ∈ lw_all)
    (k : ∀ (H1 : Heap) (q : Nat), GH D (gA as s.heap.size) as s.heap ws H1 locs → W p l e R s m args below meth c H1 locs (cells + 1) (slots + 8) Q (F0 m x.handlerPc ls [.ref q])) : vn_Note p l e R s m args below meth c H locs cells slots Q (F0 m pc ls rest) "java/lang/NullPointerException" none := by
  refine vn_npe S.1 hfl (hat_NPE S.2.2.2.2 hE) hgd_NPE hZ.1 hZ.2 hH.2.2.1 (by rw [S.2.2.1]; exact hl.1) (by omega) (by omega) hf.1 hf.2 hlk (fun H1 q9 ce hz ho hS hq hv hc => ?_)
  exact vx_catch S.2.2.2.1 pre x suf htb hpass hcov h0 (S.2.2.2.2 _ hlink) (va_Nw.use rfl (hE.1 _ (List.mem_of_getElem? (i := 10) rfl))) hq hv hc (k H1 q9 (g_grow hH ho hS))
theorem cn_msg {X N text : String} {names : List String} {nb : Nat} (hat : ∀ w ∈ vx_atM X names, w.before args s = true) (hgood : ∀ w ∈ vx_atM X names, vx_ot w = true) (hcls : Bundle.fit X = true) (hnames : ∀ n ∈ names, Bundle.fit n = true) (hsoe : (X == "java/lang/StackOverflowError") = false) (hoom : (X == "java/lang/OutOfMemoryError") = false) (hlen : names.length ≤ 3) (htext : (text == notModelled) = false) (hnb : (stringBytes (stringToUtf16 text)).size ≤ nb) (hnb1 : nb ≤ 1000) (hca : va_Nw (.castable X N) s)
    (S : CallFix p m c cc nL s args lw_all own) (hfl : l.stackTraces = false) (hlk : meth.locks = false) (hl : lv_has ls nL lv) (hZ : EXH as s) (hH : GH D (gA as s.heap.size) as s.heap ws H locs) (hR : 9 ≤ R.frames ∧ 10300 ≤ R.locals) (hsum : (rest.map fun v => v.category).sum ≤ 8) (hf : cells + 3 ≤ R.cells ∧ slots + (nb + 10) ≤ R.slots)
    (pre : List ExceptionTableEntry) (x : ExceptionTableEntry) (suf : List ExceptionTableEntry) (htb : c.exceptionTable.toList = pre ++ x :: suf) (hpass : ∀ z ∈ pre, covers z pc = false ∨ (z.catchType ≠ 0 ∧ ∃ nm : String, (Cond.classLink own z.catchType nm).before args s = true ∧ va_Nc X nm s)) (hcov : covers x pc = true) (h0 : x.catchType ≠ 0) (hlink : Cond.classLink own x.catchType N ∈ lw_all)
    (k : ∀ (H1 : Heap) (q : Nat), GH D (gA as s.heap.size) as s.heap ws H1 locs → W p l e R s m args below meth c H1 locs (cells + 3) (slots + (nb + 10)) Q (F0 m x.handlerPc ls [.ref q])) : vn_Note p l e R s m args below meth c H locs cells slots Q (F0 m pc ls rest) X (some text) := by
  refine vn_vm S.1 hfl hcls hnames hsoe hoom hat hgood hZ.1 hZ.2 hH.2.2.1 (by rw [S.2.2.1]; exact hl.1) htext hnb hnb1 (by omega) (by omega) (by omega) hf.1 hf.2 hlk (fun H1 q9 ce hz ho hS hq hv hc => ?_)
  exact vx_catch S.2.2.2.1 pre x suf htb hpass hcov h0 (S.2.2.2.2 _ hlink) (va_Nw.use rfl hca) hq hv hc (k H1 q9 (g_grow hH ho hS))
theorem xcp_N1 (S : CallFix p m c cc nL s args lw_all own) (hl : lv_has ls nL lv) (hH : GH D A (xAs a) H0 (WX ct a ρ st) H locs) (hj : j1 < 6) (c1 : ¬ (xr st j1).isSome = true) (hlk : Cond.methodLink own idx arraycopyName ∈ lw_all) (hR : 1 ≤ R.frames ∧ 60 ≤ R.locals) (hsum : (rest.map fun v => v.category).sum ≤ 8) (hdg : decode cc pc = .ok (.invokestatic idx, 3))
    (k : vn_Note p l e R s m args below meth c H locs cells slots Q (F0 m pc ls rest) "java/lang/NullPointerException" none) : W p l e R s m args below meth c H locs cells slots Q (F0 m pc ls (.int n :: .int dp :: va_rf (ar a j2) :: .int sp :: va_rf (ar a j1) :: rest)) := by
  rw [xr_null hH (Nat.lt_of_lt_of_le hj (by decide)) c1]
  exact vn_copy S hl hlk (Or.inl rfl) (va_rf_or _) (fun U fs E0 _ _ hE => cp_null1 hE) hR hsum hdg k
theorem xcp_N2 (S : CallFix p m c cc nL s args lw_all own) (hl : lv_has ls nL lv) (hH : GH D A (xAs a) H0 (WX ct a ρ st) H locs) (hj1 : j1 < 6) (hj : j2 < 6) (c1 : (xr st j1).isSome = true) (c2 : ¬ (xr st j2).isSome = true) (hlk : Cond.methodLink own idx arraycopyName ∈ lw_all) (hR : 1 ≤ R.frames ∧ 60 ≤ R.locals) (hsum : (rest.map fun v => v.category).sum ≤ 8) (hdg : decode cc pc = .ok (.invokestatic idx, 3))
    (k : vn_Note p l e R s m args below meth c H locs cells slots Q (F0 m pc ls rest) "java/lang/NullPointerException" none) : W p l e R s m args below meth c H locs cells slots Q (F0 m pc ls (.int n :: .int dp :: va_rf (ar a j2) :: .int sp :: va_rf (ar a j1) :: rest)) := by
  rw [xr_null hH (Nat.lt_of_lt_of_le hj (by decide)) c2]
  obtain ⟨n1, f1, hr, -⟩ := xr_some c1
  obtain ⟨q, k0, hq, -, -⟩ := xr_has hH.2.2.2.2.2 (Nat.lt_of_lt_of_le hj1 (by decide)) hr
  rw [hq]
  exact vn_copy S hl hlk (Or.inr ⟨q, rfl⟩) (Or.inl rfl) (fun U fs E0 _ _ hE => cp_null2 hE) hR hsum hdg k
def xrF (s : XS) (j : Nat) : Nat → Int32 := match xr s j with
  | some q => q.2
  | none => fun _ => 0
theorem xr_nf (c1 : (xr st j).isSome = true) : xr st j = some (xrN st j, xrF st j) := by
  obtain ⟨⟨n, f⟩, h⟩ := Option.isSome_iff_exists.mp c1
  unfold xrN xrF
  rw [h]
theorem cp_none {n1 n2 : Nat} {f g : Nat → Int32} (h : ¬ (bs_cp f n1 g n2 sp dp n).isSome = true) : ∃ what, cpFault n1 n2 sp dp n = some what := by
  cases hc : cpFault n1 n2 sp dp n with
  | some w => exact ⟨w, rfl⟩
  | none =>
    refine absurd ?_ h
    unfold cpFault at hc
    by_cases c1 : sp < 0
    · rw [if_pos c1] at hc; cases hc
    rw [if_neg c1] at hc
    by_cases c2 : dp < 0
    · rw [if_pos c2] at hc; cases hc
    rw [if_neg c2] at hc
    by_cases c3 : n < 0
    · rw [if_pos c3] at hc; cases hc
    rw [if_neg c3] at hc
    by_cases c4 : sp.toInt + n.toInt > n1
    · rw [if_pos c4] at hc; cases hc
    rw [if_neg c4] at hc
    by_cases c5 : dp.toInt + n.toInt > n2
    · rw [if_pos c5] at hc; cases hc
    unfold bs_cp
    have e1 : (sp.toNatClampNeg : Int) = sp.toInt := by rw [← Int32.toNat_toInt]; exact Int.toNat_of_nonneg (Int.not_lt.mp fun hq => c1 (Int32.lt_iff_toInt_lt.mpr hq))
    have e2 : (dp.toNatClampNeg : Int) = dp.toInt := by rw [← Int32.toNat_toInt]; exact Int.toNat_of_nonneg (Int.not_lt.mp fun hq => c2 (Int32.lt_iff_toInt_lt.mpr hq))
    have e3 : (n.toNatClampNeg : Int) = n.toInt := by rw [← Int32.toNat_toInt]; exact Int.toNat_of_nonneg (Int.not_lt.mp fun hq => c3 (Int32.lt_iff_toInt_lt.mpr hq))
    rw [if_pos ⟨⟨c1, c2, c3⟩, by omega, by omega⟩]
    rfl
theorem xcp_Z (S : CallFix p m c cc nL s args lw_all own) (hl : lv_has ls nL lv) (hK : va_K D clA (tysG ct) s) (hH : GH D A (xAs a) H0 (WX ct a ρ st) H locs) (hj1 : j1 < 6) (hj : j2 < 6) (c1 : (xr st j1).isSome = true) (c2 : (xr st j2).isSome = true) (c3 : ¬ (bs_cp (xrF st j1) (xrN st j1) (xrF st j2) (xrN st j2) sp dp n).isSome = true) (hlk : Cond.methodLink own idx arraycopyName ∈ lw_all) (hR : 1 ≤ R.frames ∧ 60 ≤ R.locals) (hsum : (rest.map fun v => v.category).sum ≤ 8) (hdg : decode cc pc = .ok (.invokestatic idx, 3))
    (k : ∀ what : String, cpFault (xrN st j1) (xrN st j2) sp dp n = some what → vn_Note p l e R s m args below meth c H locs cells slots Q (F0 m pc ls rest) "java/lang/ArrayIndexOutOfBoundsException" (some ("arraycopy: " ++ what))) : W p l e R s m args below meth c H locs cells slots Q (F0 m pc ls (.int n :: .int dp :: va_rf (ar a j2) :: .int sp :: va_rf (ar a j1) :: rest)) := by
  obtain ⟨what, hw⟩ := cp_none c3
  obtain ⟨q1, k1, hq1, hat1, -⟩ := xr_has hH.2.2.2.2.2 (Nat.lt_of_lt_of_le hj1 (by decide)) (xr_nf c1)
  obtain ⟨q2, k2, hq2, hat2, -⟩ := xr_has hH.2.2.2.2.2 (Nat.lt_of_lt_of_le hj (by decide)) (xr_nf c2)
  rw [if_pos hj1] at hat1
  rw [if_pos hj] at hat2
  rw [hq1, hq2]
  refine vn_copy S hl hlk (Or.inr ⟨q1, rfl⟩) (Or.inr ⟨q2, rfl⟩) (fun U fs E0 hU hA hE => ?_) hR hsum hdg (k what hw)
  obtain ⟨-, kk, hk, comp, hkk⟩ := (hK.2 0 _ rfl).1 0 (fun _ => .int 0)
  obtain ⟨kk', hk', he⟩ := hA.2.2 _ _ hk
  exact cp_bounds (cs := vp_cell (ct 0) (xrN st j1, .inl (xrF st j1))) (cd := vp_cell (ct 0) (xrN st j2, .inl (xrF st j2))) (by rw [hU]; exact hH.1 k1 _ hat1) (by rw [hU]; exact hH.1 k2 _ hat2) (fun q h => by cases h) (fun q h => by cases h) (arrV_size _ _ _) (arrV_size _ _ _) hk' hk' (by rw [he]; exact hkk) (by rw [he]; exact hkk) hw hE
theorem xcp_ok (S : CallFix p m c cc nL s args lw_all RX0) (hl : lv_has ls nL lv) (hK : va_K D clA (tysG ct) s) (hH : GH D A (xAs a) H0 (WX ct a ρ st) H locs) (hj1 : j1 < 6) (hj : j2 < 6) (c1 : (xr st j1).isSome = true) (c2 : (xr st j2).isSome = true) (hv : bs_cp (xrF st j1) (xrN st j1) (xrF st j2) (xrN st j2) sp dp n = some f) (he : st1 = sxr st j2 (some (xrN st j2, f))) (hR : 1 ≤ R.frames ∧ 60 ≤ R.locals) (hsum : (rest.map fun v => v.category).sum ≤ 8) (hdg : decode cc pc = .ok (.invokestatic 102, 3))
    (k : ∀ (H1 : Heap) (locs1 : List Loc), GH D A (xAs a) H0 (WX ct a ρ st1) H1 locs1 → W p l e R s m args below meth c H1 locs1 cells slots Q (F0 m (pc + 3) ls rest)) : W p l e R s m args below meth c H locs cells slots Q (F0 m pc ls (.int n :: .int dp :: va_rf (ar a j2) :: .int sp :: va_rf (ar a j1) :: rest)) := by
  subst he
  obtain ⟨q1, k1, hq1, hat1, -⟩ := xr_has hH.2.2.2.2.2 (Nat.lt_of_lt_of_le hj1 (by decide)) (xr_nf c1)
  obtain ⟨q2, k2, hq2, hat2, hset⟩ := xr_has hH.2.2.2.2.2 (Nat.lt_of_lt_of_le hj (by decide)) (xr_nf c2)
  rw [if_pos hj1] at hat1
  rw [if_pos hj] at hat2
  simp only [if_pos hj] at hset
  rw [hq1, hq2]
  refine g_copy S hl hK hH.1 hH.D hH.2.2.1 k1 k2 hat1 hat2 hv hR hsum hdg (fun H1 locs1 hP hD hS => ?_)
  refine k H1 locs1 ⟨?_, ?_, hS, hH.2.2.2.1, hH.2.2.2.2.1, xok_r hH.2.2.2.2.2 (Nat.lt_of_lt_of_le hj (by decide)) (xr_nf c2)⟩
  · rw [hset]; exact hP
  · rw [hset]; exact va_D.set hH.2.1 (p := k2) hat2
end XCP

/-! CapCouncil.copy (IIIII)I -/
def X_copy (st : XS) (a1 : Int32) (a2 : Int32) (a3 : Int32) (a4 : Int32) (a5 : Int32) : Option (XS × Int32) :=
  (X_isRow a1).bind fun v1 =>
  if v1 = 0 then
    (some (st, (-1 : Int32)))
  else
    ((X_isRow a3).bind fun v3 =>
    if v3 = 0 then
      (some (st, (-1 : Int32)))
    else
      (if 0 ≤ a5 then
        ((bs_ix 6 a1).bind fun v6 =>
        (bs_ix 6 a3).bind fun v7 =>
        if (xr st v6).isSome = true then
          (if (xr st v7).isSome = true then
            (if (bs_cp (xrF st v6) (xrN st v6) (xrF st v7) (xrN st v7) a2 a4 a5).isSome = true then
              ((bs_cp (xrF st v6) (xrN st v6) (xrF st v7) (xrN st v7) a2 a4 a5).bind fun f16 =>
              bs_let (sxr st v7 (some (xrN st v7, f16))) fun s17 =>
              some (s17, (1 : Int32)))
            else
              (bs_g (decide (xrN st v6 < 2147483648)) <|
              bs_g (decide (xrN st v7 < 2147483648)) <|
              (X_found st (2 : Int32)).bind fun q15 =>
              some (q15.1, q15.2)))
          else
            ((X_found st (1 : Int32)).bind fun q12 =>
            some (q12.1, q12.2)))
        else
          ((X_found st (1 : Int32)).bind fun q11 =>
          some (q11.1, q11.2)))
      else
        ((X_found st (5 : Int32)).bind fun q18 =>
        some (q18.1, q18.2))))
def rm_X_copy : Room := { frames := 9, cells := 3, slots := 410, locals := 10320 }
set_option maxHeartbeats 4000000 in
set_option maxRecDepth 100000 in
theorem met_X_copy (l : Launch) (hfl : l.stackTraces = false) (D : va_G) (ct : Nat → ClassId) (a : XA) (ρ : Option Nat) (sz : Nat) (st : XS) (a1 : Int32) (a2 : Int32) (a3 : Int32) (a4 : Int32) (a5 : Int32) (z : (XS × Int32)) (hd : X_copy st a1 a2 a3 a4 a5 = some z) : vx_Met l yX0_copy (wsW_ yX0_copy cX0_copy 7 (some .int) [(27, 48, 49, 98), (27, 48, 57, 108)]) rm_X_copy (GPreX D ct (xAs a) (WX ct a ρ st) sz [.ref (ah a 0), .int a1, .int a2, .int a3, .int a4, .int a5]) (GQi D (xAs a) (xAs a) (WX ct a ρ z.1) sz z.2) XNo 3 410 (gA (xAs a) sz) := by
  refine gx_met (cc := cX0_copy) (maxL := 7) (ret := (some .int)) (by decide) (Nat.le_of_ble_eq_true rfl) ?_
  intro p e U m args below meth c ls S hr hlk hK hH hE hZ hsz htb hl
  subst hsz
  have S : CallFix p m c cX0_copy 7 U args lw_all RX0 := S
  have hx := S.1
  have hb := S.2.1
  have hl : lv_has ls 7 [(0, .ref (ah a 0)), (1, .int a1), (2, .int a2), (3, .int a3), (4, .int a4), (5, .int a5)] := hl
  unfold X_copy at hd
  refine lv_iload_n (pc := 0) hx hb dX0_copy_0 rfl (lv_at hl 1 rfl) ?_
  obtain ⟨v1, hv1, hd⟩ := bs_bd hd
  refine call_X_isRow (pc := 1) S hl q282 hv1 ⟨Nat.le_of_ble_eq_true rfl, Nat.le_of_ble_eq_true rfl⟩ (Nat.le_of_ble_eq_true rfl) dX0_copy_1 ⟨Nat.le_of_ble_eq_true rfl, Nat.le_of_ble_eq_true rfl⟩ ?_
  refine lv_if_eq (pc := 4) (tgt := 14) hx hb dX0_copy_4 (by decide) (fun c2 => ?_) (fun c2 => ?_)
  · have hd := if_t c2 hd
    refine lv_iconst (v := (-1 : Int32)) (pc := 14) hx hb dX0_copy_14 (by decide) ?_
    refine vx_ret ?_
    refine W.widen (k := 3) (n := 410) (Nat.le_of_ble_eq_true rfl) (Nat.le_of_ble_eq_true rfl) ?_
    exact g_iret (WX ct a ρ) hd S hr hlk hH dX0_copy_15
  · have hd := if_n c2 hd
    refine lv_iload_n (pc := 7) hx hb dX0_copy_7 rfl (lv_at hl 3 rfl) ?_
    obtain ⟨v3, hv3, hd⟩ := bs_bd hd
    refine call_X_isRow (pc := 8) S hl q282 hv3 ⟨Nat.le_of_ble_eq_true rfl, Nat.le_of_ble_eq_true rfl⟩ (Nat.le_of_ble_eq_true rfl) dX0_copy_8 ⟨Nat.le_of_ble_eq_true rfl, Nat.le_of_ble_eq_true rfl⟩ ?_
    refine lv_if_ne (pc := 11) (tgt := 16) hx hb dX0_copy_11 (by decide) (fun c4 => ?_) (fun c4 => ?_)
    · have hd := if_n c4 hd
      refine lv_iload (pc := 16) hx hb dX0_copy_16 (lv_at hl 5 rfl) ?_
      refine lv_if_ge (pc := 18) (tgt := 27) hx hb dX0_copy_18 (by decide) (fun c5 => ?_) (fun c5 => ?_)
      · have hd := if_t c5 hd
        refine lv_aload_n (pc := 27) hx hb dX0_copy_27 rfl (lv_at hl 0 rfl) ?_
        refine xg_rows (pc := 28) S hK hH dX0_copy_28 ?_
        refine lv_iload_n (pc := 31) hx hb dX0_copy_31 rfl (lv_at hl 1 rfl) ?_
        obtain ⟨v6, hv6, hd⟩ := bs_bd hd
        refine xq_rows (pc := 32) S hK hH hv6 dX0_copy_32 ?_
        refine lv_iload_n (pc := 33) hx hb dX0_copy_33 rfl (lv_at hl 2 rfl) ?_
        refine lv_aload_n (pc := 34) hx hb dX0_copy_34 rfl (lv_at hl 0 rfl) ?_
        refine xg_rows (pc := 35) S hK hH dX0_copy_35 ?_
        refine lv_iload_n (pc := 38) hx hb dX0_copy_38 rfl (lv_at hl 3 rfl) ?_
        obtain ⟨v7, hv7, hd⟩ := bs_bd hd
        refine xq_rows (pc := 39) S hK hH hv7 dX0_copy_39 ?_
        refine lv_iload (pc := 40) hx hb dX0_copy_40 (lv_at hl 4 rfl) ?_
        refine lv_iload (pc := 42) hx hb dX0_copy_42 (lv_at hl 5 rfl) ?_
        by_cases c8 : (xr st v6).isSome = true
        · have hd := if_t c8 hd
          by_cases c9 : (xr st v7).isSome = true
          · have hd := if_t c9 hd
            by_cases c10 : (bs_cp (xrF st v6) (xrN st v6) (xrF st v7) (xrN st v7) a2 a4 a5).isSome = true
            · have hd := if_t c10 hd
              obtain ⟨f16, hf16, hd⟩ := bs_bd hd
              obtain ⟨s17, es17, hd⟩ := bs_let_spec hd
              refine xcp_ok (pc := 44) S hl hK hH (bs_ix_lt hv6) (bs_ix_lt hv7) c8 c9 hf16 es17 ⟨Nat.le_of_ble_eq_true rfl, Nat.le_of_ble_eq_true rfl⟩ (Nat.le_of_ble_eq_true rfl) dX0_copy_44 (fun H locs hH => ?_)
              refine lv_iconst (v := (1 : Int32)) (pc := 47) hx hb dX0_copy_47 (by decide) ?_
              refine vx_ret ?_
              refine W.widen (k := 3) (n := 410) (Nat.le_of_ble_eq_true rfl) (Nat.le_of_ble_eq_true rfl) ?_
              exact g_iret (WX ct a ρ) hd S hr hlk hH dX0_copy_48
            · have hd := if_n c10 hd
              obtain ⟨z13, hd⟩ := bs_g_spec hd
              obtain ⟨z14, hd⟩ := bs_g_spec hd
              refine xcp_Z (pc := 44) S hl hK hH (bs_ix_lt hv6) (bs_ix_lt hv7) c8 c9 c10 q358 ⟨Nat.le_of_ble_eq_true rfl, Nat.le_of_ble_eq_true rfl⟩ (Nat.le_of_ble_eq_true rfl) dX0_copy_44 (fun what hw => ?_)
              refine cn_msg (N := "java/lang/IndexOutOfBoundsException") (hat_AIOOBE S.2.2.2.2 hE) hgd_AIOOBE (by decide) (by decide) (by decide) (by decide) (by decide) (cp_modelled _) (cp_bytes (of_decide_eq_true z13) (of_decide_eq_true z14) hw) (by decide) (hE.1 _ (List.mem_of_getElem? (i := 12) rfl)) S hfl hlk hl hZ hH ⟨Nat.le_of_ble_eq_true rfl, Nat.le_of_ble_eq_true rfl⟩ (Nat.le_of_ble_eq_true rfl) ⟨Nat.le_of_ble_eq_true rfl, Nat.le_of_ble_eq_true rfl⟩ [⟨27, 48, 49, 98⟩] ⟨27, 48, 57, 108⟩ [] (htb.trans rfl) (List.forall_mem_cons.mpr ⟨Or.inr ⟨by decide, "java/lang/NullPointerException", S.2.2.2.2 _ q300, hE.2.1 _ (List.mem_of_getElem? (i := 0) rfl)⟩, fun z h => by cases h⟩) (by decide) (by decide) q357 (fun H q9 hH => ?_)
              refine lv_astore (pc := 57) (lv' := [(6, .ref q9), (0, .ref (ah a 0)), (1, .int a1), (2, .int a2), (3, .int a3), (4, .int a4), (5, .int a5)]) hx hb dX0_copy_57 hl (by decide) rfl (fun ls hl => ?_)
              refine lv_aload_n (pc := 59) hx hb dX0_copy_59 rfl (lv_at hl 1 rfl) ?_
              refine lv_iconst (v := (2 : Int32)) (pc := 60) hx hb dX0_copy_60 (by decide) ?_
              obtain ⟨q15, hq15, hd⟩ := bs_bd hd
              refine call_X_found (pc := 61) S hl hE hK hH q288 hq15 ⟨Nat.le_of_ble_eq_true rfl, Nat.le_of_ble_eq_true rfl⟩ (Nat.le_of_ble_eq_true rfl) dX0_copy_61 ⟨Nat.le_of_ble_eq_true rfl, Nat.le_of_ble_eq_true rfl⟩ (fun H locs hH => ?_)
              refine vx_ret ?_
              refine W.widen (k := 3) (n := 410) (Nat.le_of_ble_eq_true rfl) (Nat.le_of_ble_eq_true rfl) ?_
              exact g_iret (WX ct a ρ) hd S hr hlk hH dX0_copy_64
          · have hd := if_n c9 hd
            refine xcp_N2 (pc := 44) S hl hH (bs_ix_lt hv6) (bs_ix_lt hv7) c8 c9 q358 ⟨Nat.le_of_ble_eq_true rfl, Nat.le_of_ble_eq_true rfl⟩ (Nat.le_of_ble_eq_true rfl) dX0_copy_44 ?_
            refine cn_npe S hfl hlk hl hE hZ hH ⟨Nat.le_of_ble_eq_true rfl, Nat.le_of_ble_eq_true rfl⟩ (Nat.le_of_ble_eq_true rfl) ⟨Nat.le_of_ble_eq_true rfl, Nat.le_of_ble_eq_true rfl⟩ [] ⟨27, 48, 49, 98⟩ [⟨27, 48, 57, 108⟩] (htb.trans rfl) (fun z h => by cases h) (by decide) (by decide) q300 (fun H q9 hH => ?_)
            refine lv_astore (pc := 49) (lv' := [(6, .ref q9), (0, .ref (ah a 0)), (1, .int a1), (2, .int a2), (3, .int a3), (4, .int a4), (5, .int a5)]) hx hb dX0_copy_49 hl (by decide) rfl (fun ls hl => ?_)
            refine lv_aload_n (pc := 51) hx hb dX0_copy_51 rfl (lv_at hl 1 rfl) ?_
            refine lv_iconst (v := (1 : Int32)) (pc := 52) hx hb dX0_copy_52 (by decide) ?_
            obtain ⟨q12, hq12, hd⟩ := bs_bd hd
            refine call_X_found (pc := 53) S hl hE hK hH q288 hq12 ⟨Nat.le_of_ble_eq_true rfl, Nat.le_of_ble_eq_true rfl⟩ (Nat.le_of_ble_eq_true rfl) dX0_copy_53 ⟨Nat.le_of_ble_eq_true rfl, Nat.le_of_ble_eq_true rfl⟩ (fun H locs hH => ?_)
            refine vx_ret ?_
            refine W.widen (k := 3) (n := 410) (Nat.le_of_ble_eq_true rfl) (Nat.le_of_ble_eq_true rfl) ?_
            exact g_iret (WX ct a ρ) hd S hr hlk hH dX0_copy_56
        · have hd := if_n c8 hd
          refine xcp_N1 (pc := 44) S hl hH (bs_ix_lt hv6) c8 q358 ⟨Nat.le_of_ble_eq_true rfl, Nat.le_of_ble_eq_true rfl⟩ (Nat.le_of_ble_eq_true rfl) dX0_copy_44 ?_
          refine cn_npe S hfl hlk hl hE hZ hH ⟨Nat.le_of_ble_eq_true rfl, Nat.le_of_ble_eq_true rfl⟩ (Nat.le_of_ble_eq_true rfl) ⟨Nat.le_of_ble_eq_true rfl, Nat.le_of_ble_eq_true rfl⟩ [] ⟨27, 48, 49, 98⟩ [⟨27, 48, 57, 108⟩] (htb.trans rfl) (fun z h => by cases h) (by decide) (by decide) q300 (fun H q9 hH => ?_)
          refine lv_astore (pc := 49) (lv' := [(6, .ref q9), (0, .ref (ah a 0)), (1, .int a1), (2, .int a2), (3, .int a3), (4, .int a4), (5, .int a5)]) hx hb dX0_copy_49 hl (by decide) rfl (fun ls hl => ?_)
          refine lv_aload_n (pc := 51) hx hb dX0_copy_51 rfl (lv_at hl 1 rfl) ?_
          refine lv_iconst (v := (1 : Int32)) (pc := 52) hx hb dX0_copy_52 (by decide) ?_
          obtain ⟨q11, hq11, hd⟩ := bs_bd hd
          refine call_X_found (pc := 53) S hl hE hK hH q288 hq11 ⟨Nat.le_of_ble_eq_true rfl, Nat.le_of_ble_eq_true rfl⟩ (Nat.le_of_ble_eq_true rfl) dX0_copy_53 ⟨Nat.le_of_ble_eq_true rfl, Nat.le_of_ble_eq_true rfl⟩ (fun H locs hH => ?_)
          refine vx_ret ?_
          refine W.widen (k := 3) (n := 410) (Nat.le_of_ble_eq_true rfl) (Nat.le_of_ble_eq_true rfl) ?_
          exact g_iret (WX ct a ρ) hd S hr hlk hH dX0_copy_56
      · have hd := if_n c5 hd
        refine lv_aload_n (pc := 21) hx hb dX0_copy_21 rfl (lv_at hl 0 rfl) ?_
        refine lv_iconst (v := (5 : Int32)) (pc := 22) hx hb dX0_copy_22 (by decide) ?_
        obtain ⟨q18, hq18, hd⟩ := bs_bd hd
        refine call_X_found (pc := 23) S hl hE hK hH q288 hq18 ⟨Nat.le_of_ble_eq_true rfl, Nat.le_of_ble_eq_true rfl⟩ (Nat.le_of_ble_eq_true rfl) dX0_copy_23 ⟨Nat.le_of_ble_eq_true rfl, Nat.le_of_ble_eq_true rfl⟩ (fun H locs hH => ?_)
        refine vx_ret ?_
        refine W.widen (k := 3) (n := 410) (Nat.le_of_ble_eq_true rfl) (Nat.le_of_ble_eq_true rfl) ?_
        exact g_iret (WX ct a ρ) hd S hr hlk hH dX0_copy_26
    · have hd := if_t c4 hd
      refine lv_iconst (v := (-1 : Int32)) (pc := 14) hx hb dX0_copy_14 (by decide) ?_
      refine vx_ret ?_
      refine W.widen (k := 3) (n := 410) (Nat.le_of_ble_eq_true rfl) (Nat.le_of_ble_eq_true rfl) ?_
      exact g_iret (WX ct a ρ) hd S hr hlk hH dX0_copy_15
section CR_X_copy
variable {p : Program} {l : Launch} {e : Env} {R : Room} {s : State} {m : MethodId} {args : Array Value} {below : List Frame} {meth : Method} {c : Code} {H : Heap} {locs : List Loc} {cells slots : Nat} {Q : State → Prop}
variable {cc : ByteArray} {pc nL idx : Nat} {ls : Array Slot} {rest : List Value} {lv : List (Nat × Value)} {A : Nat → Prop} {H0 : Heap} {own : String}
theorem call_X_copy {D : va_G} {ct : Nat → ClassId} {a : XA} {ρ : Option Nat} {st : XS} {a1 : Int32} {a2 : Int32} {a3 : Int32} {a4 : Int32} {a5 : Int32} {z : (XS × Int32)} (hfl : l.stackTraces = false) (S : CallFix p m c cc nL s args lw_all own) (hl : lv_has ls nL lv) (hE : gEX s) (hK : va_K D clA (tysG ct) s) (hH : GH D A (xAs a) H0 (WX ct a ρ st) H locs) (hZ : vx_Zq Bundle.tN "UNASSIGNED_STACK" Bundle.steD (gA (xAs a) H.size) s H ∧ vx_Zq Bundle.tN "SUPPRESSED_SENTINEL" Bundle.listD (gA (xAs a) H.size) s H) (hlk : Cond.methodLink own idx yX0_copy ∈ lw_all) (hv : X_copy st a1 a2 a3 a4 a5 = some z) (hR : 10 ≤ R.frames ∧ 10346 ≤ R.locals) (hsum : (rest.map fun v => v.category).sum ≤ 8) (hdg : decode cc pc = .ok (.invokevirtual idx, 3)) (hf : cells + 3 ≤ R.cells ∧ slots + 410 ≤ R.slots)
    (k : ∀ (H1 : Heap) (locs1 : List Loc), GH D A (xAs a) H0 (WX ct a ρ z.1) H1 locs1 → W p l e R s m args below meth c H1 locs1 (cells + 3) (slots + 410) Q (F0 m (pc + 3) ls (.int z.2 :: rest))) : W p l e R s m args below meth c H locs cells slots Q (F0 m pc ls (.int a5 :: .int a4 :: .int a3 :: .int a2 :: .int a1 :: .ref (ah a 0) :: rest)) :=
  gx_calli (av := [.int a1, .int a2, .int a3, .int a4, .int a5]) S hl hE hK hH hZ (met_X_copy l hfl D ct a ρ H.size st a1 a2 a3 a4 a5 z hv) (lw_VW hlk q354 q355 q69 q356) rfl rfl ⟨rfl, by decide, by decide, by show (parseMethodDescriptor yX0_copy.desc).map (fun d => d.parameters.length) = some 5; decide +kernel⟩ hR (x_recv hK hH) (fun _ h => Or.inl h) rfl hsum hdg hf k
end CR_X_copy
