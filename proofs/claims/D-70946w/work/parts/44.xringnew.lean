/-! rings that are made -/
set_option maxRecDepth 100000
def TR : u_T := fun _ => (RX2, "number", "I", true)
theorem TR_ok : ∀ k, k < 1 → parseFieldDescriptor (TR k).2.2.1 = some ((fun _ => FieldType.int) k) := by
  intro k _
  show parseFieldDescriptor "I" = some FieldType.int
  decide +kernel
theorem rg_cl2 : ∀ {k : Nat}, k < 6 → clA[2 + k]? = some ((rgC k).1, TR, 1)
  | 0, _ => rfl
  | 1, _ => rfl
  | 2, _ => rfl
  | 3, _ => rfl
  | 4, _ => rfl
  | 5, _ => rfl
  | k + 6, h => absurd h (by omega)
theorem rg_in : ∀ {k : Nat}, k < 6 → ∀ w ∈ u_ws (rgC k).1 TR 1, w ∈ lw_all
  | 0, _ => in_X2
  | 1, _ => in_X3
  | 2, _ => in_X4
  | 3, _ => in_X5
  | 4, _ => in_X6
  | 5, _ => in_X7
  | k + 6, h => absurd h (by omega)
section RN
variable {p : Program} {l : Launch} {e : Env} {R : Room} {s : State} {m : MethodId} {args : Array Value} {below : List Frame} {meth : Method} {c : Code} {H : Heap} {locs : List Loc} {cells slots : Nat} {Q : State → Prop}
variable {cc bytes : ByteArray} {pc nL maxL idx mc ms sz q kd N j : Nat} {num i x : Int32} {ls : Array Slot} {rest av st0 : List Value} {lv : List (Nat × Value)} {D : va_G} {ct : Nat → ClassId} {A : Nat → Prop} {as : List Nat} {H0 : Heap} {ws : va_W × Prop} {own : String} {a : XA} {st st1 : XS} {y : MethodName} {ret : Option FieldType} {rm : Room} {E : State → Prop}
/-- the start of a constructor -/
theorem g_metI {Qc : Array Value → State → Outcome → State → Prop} {free : Addr → Prop} (hy : plainName y.cls = true) (hyn : y.name = "<init>") (hn : (lg_sl av).length ≤ maxL)
    (body : ∀ (p : Program) (e : Env) (s : State) (m : MethodId) (args : Array Value) (below : List Frame) (meth : Method) (c : Code) (ls : Array Slot), CallFix p m c cc maxL s args lw_all y.cls → meth.sig.returnType = ret → meth.locks = false → meth.name = "<init>" → va_K D clA (tysG ct) s → GH D (gA as sz) as s.heap ws s.heap [] → E s → s.heap.size = sz → lv_has ls maxL (lv_args 0 av) →
      W p l e rm s m args below meth c s.heap [] 0 0 (MQ below Qc args s mc ms free) (F0 m 0 ls [])) : Met l y (ws_ y cc maxL ret) rm (GPre E D ct as ws sz av) Qc mc ms free := by
  refine Met.ofW (cc := cc) (maxL := maxL) (ret := ret) hy rfl ?_
  intro p e s m args below meth c s₁ B hml hv
  obtain ⟨rfl, hsz, hP, hK, hD, hE, hX⟩ := hv
  have hts := atoms_spec (ws := ws_ y cc maxL ret) B.pre
  have hts : ∀ w ∈ lw_all, w.before _ s = true := fun w h => hts w (List.mem_cons_of_mem _ h)
  have hown := findClass_of_methodNamed B.named
  have hin : meth.name = "<init>" := (name_of_methodNamed B.named B.method).1.trans hyn
  have hl := lv_entry av (n := maxL) hn
  rw [lg_entry_eq]
  exact body p e s m _ below meth c _ ⟨B.exec, B.bytes, hml, hown, hts⟩ B.returns B.notSynchronized hin hK ⟨hP, hD, va_S.rf, fun q h => Or.inl h, fun q h => Or.inr (by rw [← hsz]; exact h), hX⟩ hE hsz hl
/-- the call of a constructor: nothing is given back -/
theorem g_callI {as1 : List Nat} {ws1 : va_W × Prop} {b : Nat} (S : CallFix p m c cc nL s args lw_all own) (hl : lv_has ls nL lv) (hE : gE_ok E) (hEs : E s) (hK : va_K D clA (tysG ct) s) (hH : GH D A as H0 ws H locs) (hM : Met l y (ws_ y bytes maxL none) rm (GPre E D ct as ws H.size (.ref b :: av)) (GQv D as as1 ws1 H.size) mc ms (gA as H.size))
    (hc : Cond.code y bytes maxL none ∈ lw_all) (hi : Cond.initialized y.cls ∈ lw_all) (hlk : Cond.methodLink own idx y ∈ lw_all) (him : Cond.instanceMethod y ∈ lw_all) (hy : y.name = "<init>") (hrc : rm.cells = mc) (hrs : rm.slots = ms) (hd : y.cls ≠ "java/lang/invoke/MethodHandle" ∧ y.cls ≠ "java/lang/invoke/VarHandle" ∧ (parseMethodDescriptor y.desc).map (fun d => d.parameters.length) = some av.length) (hR : rm.frames + 1 ≤ R.frames ∧ 8 + (maxL + 11) + rm.locals ≤ R.locals)
    (hn : ∀ q, q ∈ as1 → gA as H.size q)
    (hst : st0 = av.reverse ++ .ref b :: rest) (hsum : (rest.map fun v => v.category).sum ≤ 8) (hdg : decode cc pc = .ok (.invokespecial idx, 3)) (hf : cells + mc ≤ R.cells ∧ slots + ms ≤ R.slots)
    (k : ∀ (H1 : Heap) (locs1 : List Loc), GH D A as1 H0 ws1 H1 locs1 → W p l e R s m args below meth c H1 locs1 (cells + mc) (slots + ms) Q (F0 m (pc + 3) ls rest)) : W p l e R s m args below meth c H locs cells slots Q (F0 m pc ls st0) := by
  have hsub := g_sub hH.2.2.1 hH.2.2.2.1 hH.2.2.2.2.1
  refine va_callv (va_runI (As := av) (rest := rest) S hM (cwI av.length S.2.2.2.2 (lw_meth hc) rfl hrc hrs (S.2.2.2.2 _ hi) (S.2.2.2.2 _ hlk) (S.2.2.2.2 _ him) hy hd hR) (g_pre (av := .ref b :: av) hE hEs hK hH) rfl rfl hl.1 hst (lv_room hsum) hdg hf) hH.2.2.1 (fun q _ h => hsub q h) hsub (fun u t H1 locs1 ht hvm hr hB hz hk hS => ?_)
  obtain ⟨hP1, hD1, hX1⟩ := hB
  rw [ht] at hP1
  exact k H1 locs1 (g_new hH hP1 hD1 hX1 hS hn)
theorem g_objInit (S : CallFix p m c cc nL s args lw_all own) (hl : lv_has ls nL lv) (hlk : Cond.methodLink own idx objectInit ∈ lw_all) {b : Nat} (hdg : decode cc pc = .ok (.invokespecial idx, 3)) (hR : 1 ≤ R.frames ∧ 20 ≤ R.locals) (hsum : (rest.map fun v => v.category).sum ≤ 8)
    (k : W p l e R s m args below meth c H locs cells slots Q (F0 m (pc + 3) ls rest)) : W p l e R s m args below meth c H locs cells slots Q (F0 m pc ls (.ref b :: rest)) := by
  refine W.objInit (a := b) (rest := rest) S.1 S.2.1 S.2.2.2.1 (S.2.2.2.2 _ hlk) (S.2.2.2.2 _ q97) (S.2.2.2.2 _ q98) rfl (by rw [S.2.2.1]; exact hl.1) rfl hdg hR.1 (by show 2 * 0 + _ + 12 ≤ _; omega) ?_
  exact k
end RN
def rm_ri (d : Nat) : Room := { frames := 1 + d, cells := 0, slots := 0, locals := 20 + 21 * d }
theorem met_X2_init (l : Launch) (D : va_G) (ct : Nat → ClassId) (q sz kd : Nat) (num0 num : Int32) (hkd : kd < 6) : Met l yX2_init (ws_ yX2_init cX2_init 2 none) (rm_ri 0) (GPre gE_0 D ct [q] (WR kd num0 q) sz [.ref q, .int num]) (GQv D [q] [q] (WR kd num q) sz) 0 0 (gA [q] sz) := by
  refine g_metI (cc := cX2_init) (maxL := 2) (ret := none) (by decide) rfl (Nat.le_of_ble_eq_true rfl) ?_
  intro p e U m args below meth c ls S hr hlk hin hK hH hE hsz hl
  have S : CallFix p m c cX2_init 2 U args lw_all RX2 := S
  have hx := S.1
  have hb := S.2.1
  have hl : lv_has ls 2 [(0, .ref q), (1, .int num)] := hl
  refine lv_aload_n (pc := 0) hx hb dX2_init_0 rfl (lv_at hl 0 rfl) ?_
  refine g_objInit (pc := 1) S hl q436 dX2_init_1 ⟨Nat.le_of_ble_eq_true rfl, Nat.le_of_ble_eq_true rfl⟩ (Nat.le_of_ble_eq_true rfl) ?_
  refine lv_aload_n (pc := 4) hx hb dX2_init_4 rfl (lv_at hl 0 rfl) ?_
  refine lv_iload_n (pc := 5) hx hb dX2_init_5 rfl (lv_at hl 1 rfl) ?_
  refine va_putF (pc := 6) (D := D) (cl := clA) (ci := 2 + kd) (v := .int num) (ty := .int) (C := (rgC kd).1) (T := TR) (N := 1) S.1 S.2.1 S.2.2.2.2 (rg_in hkd) (fun _ => .int) TR_ok (fun a ha b hb h => absurd (by omega) h) S.2.2.2.1 hK hH.1 hH.D hH.2.2.1 0 rfl (rg_cl2 hkd) 0 (by decide) (S.2.2.2.2 _ q437) (fun _ h9 => h9) rfl hin rfl (by decide +kernel) rfl rfl (Nat.le_of_ble_eq_true rfl) dX2_init_6 (fun H locs hP hD hS => ?_)
  have hH1 : GH D (gA [q] sz) [q] U.heap (WR kd num q) H locs := ⟨hP, va_D.set hH.2.1 (p := 0) rfl, hS, hH.2.2.2.1, hH.2.2.2.2.1, trivial⟩
  exact g_vret (fun _ : Unit => WR kd num q) (st := ()) rfl S hr hlk hH1 dX2_init_9
theorem met_X3_init (l : Launch) (D : va_G) (ct : Nat → ClassId) (q sz kd : Nat) (num0 num : Int32) (hkd : kd < 6) : Met l yX3_init (ws_ yX3_init cX3_init 2 none) (rm_ri 1) (GPre gE_0 D ct [q] (WR kd num0 q) sz [.ref q, .int num]) (GQv D [q] [q] (WR kd num q) sz) 0 0 (gA [q] sz) := by
  refine g_metI (cc := cX3_init) (maxL := 2) (ret := none) (by decide) rfl (Nat.le_of_ble_eq_true rfl) ?_
  intro p e U m args below meth c ls S hr hlk hin hK hH hE hsz hl
  have S : CallFix p m c cX3_init 2 U args lw_all RX3 := S
  have hx := S.1
  have hb := S.2.1
  have hl : lv_has ls 2 [(0, .ref q), (1, .int num)] := hl
  refine lv_aload_n (pc := 0) hx hb dX3_init_0 rfl (lv_at hl 0 rfl) ?_
  refine lv_iload_n (pc := 1) hx hb dX3_init_1 rfl (lv_at hl 1 rfl) ?_
  refine g_callI (pc := 2) (av := [.int num]) S hl gE_0_ok trivial hK hH (met_X2_init l D ct q U.heap.size kd num0 num hkd) q435 q81 q433 q434 rfl rfl rfl ⟨by decide, by decide, by show (parseMethodDescriptor yX2_init.desc).map (fun d => d.parameters.length) = some 1; decide +kernel⟩ ⟨Nat.le_of_ble_eq_true rfl, Nat.le_of_ble_eq_true rfl⟩ (fun _ h => Or.inl h) rfl (Nat.le_of_ble_eq_true rfl) dX3_init_2 ⟨Nat.le_of_ble_eq_true rfl, Nat.le_of_ble_eq_true rfl⟩ (fun H locs hH => ?_)
  exact g_vret (fun _ : Unit => WR kd num q) (st := ()) rfl S hr hlk hH dX3_init_5
theorem met_X4_init (l : Launch) (D : va_G) (ct : Nat → ClassId) (q sz kd : Nat) (num0 num : Int32) (hkd : kd < 6) : Met l yX4_init (ws_ yX4_init cX4_init 2 none) (rm_ri 1) (GPre gE_0 D ct [q] (WR kd num0 q) sz [.ref q, .int num]) (GQv D [q] [q] (WR kd num q) sz) 0 0 (gA [q] sz) := by
  refine g_metI (cc := cX4_init) (maxL := 2) (ret := none) (by decide) rfl (Nat.le_of_ble_eq_true rfl) ?_
  intro p e U m args below meth c ls S hr hlk hin hK hH hE hsz hl
  have S : CallFix p m c cX4_init 2 U args lw_all RX4 := S
  have hx := S.1
  have hb := S.2.1
  have hl : lv_has ls 2 [(0, .ref q), (1, .int num)] := hl
  refine lv_aload_n (pc := 0) hx hb dX4_init_0 rfl (lv_at hl 0 rfl) ?_
  refine lv_iload_n (pc := 1) hx hb dX4_init_1 rfl (lv_at hl 1 rfl) ?_
  refine g_callI (pc := 2) (av := [.int num]) S hl gE_0_ok trivial hK hH (met_X2_init l D ct q U.heap.size kd num0 num hkd) q435 q81 q446 q434 rfl rfl rfl ⟨by decide, by decide, by show (parseMethodDescriptor yX2_init.desc).map (fun d => d.parameters.length) = some 1; decide +kernel⟩ ⟨Nat.le_of_ble_eq_true rfl, Nat.le_of_ble_eq_true rfl⟩ (fun _ h => Or.inl h) rfl (Nat.le_of_ble_eq_true rfl) dX4_init_2 ⟨Nat.le_of_ble_eq_true rfl, Nat.le_of_ble_eq_true rfl⟩ (fun H locs hH => ?_)
  exact g_vret (fun _ : Unit => WR kd num q) (st := ()) rfl S hr hlk hH dX4_init_5
theorem met_X5_init (l : Launch) (D : va_G) (ct : Nat → ClassId) (q sz kd : Nat) (num0 num : Int32) (hkd : kd < 6) : Met l yX5_init (ws_ yX5_init cX5_init 2 none) (rm_ri 1) (GPre gE_0 D ct [q] (WR kd num0 q) sz [.ref q, .int num]) (GQv D [q] [q] (WR kd num q) sz) 0 0 (gA [q] sz) := by
  refine g_metI (cc := cX5_init) (maxL := 2) (ret := none) (by decide) rfl (Nat.le_of_ble_eq_true rfl) ?_
  intro p e U m args below meth c ls S hr hlk hin hK hH hE hsz hl
  have S : CallFix p m c cX5_init 2 U args lw_all RX5 := S
  have hx := S.1
  have hb := S.2.1
  have hl : lv_has ls 2 [(0, .ref q), (1, .int num)] := hl
  refine lv_aload_n (pc := 0) hx hb dX5_init_0 rfl (lv_at hl 0 rfl) ?_
  refine lv_iload_n (pc := 1) hx hb dX5_init_1 rfl (lv_at hl 1 rfl) ?_
  refine g_callI (pc := 2) (av := [.int num]) S hl gE_0_ok trivial hK hH (met_X2_init l D ct q U.heap.size kd num0 num hkd) q435 q81 q454 q434 rfl rfl rfl ⟨by decide, by decide, by show (parseMethodDescriptor yX2_init.desc).map (fun d => d.parameters.length) = some 1; decide +kernel⟩ ⟨Nat.le_of_ble_eq_true rfl, Nat.le_of_ble_eq_true rfl⟩ (fun _ h => Or.inl h) rfl (Nat.le_of_ble_eq_true rfl) dX5_init_2 ⟨Nat.le_of_ble_eq_true rfl, Nat.le_of_ble_eq_true rfl⟩ (fun H locs hH => ?_)
  exact g_vret (fun _ : Unit => WR kd num q) (st := ()) rfl S hr hlk hH dX5_init_5
theorem met_X6_init (l : Launch) (D : va_G) (ct : Nat → ClassId) (q sz kd : Nat) (num0 num : Int32) (hkd : kd < 6) : Met l yX6_init (ws_ yX6_init cX6_init 2 none) (rm_ri 2) (GPre gE_0 D ct [q] (WR kd num0 q) sz [.ref q, .int num]) (GQv D [q] [q] (WR kd num q) sz) 0 0 (gA [q] sz) := by
  refine g_metI (cc := cX6_init) (maxL := 2) (ret := none) (by decide) rfl (Nat.le_of_ble_eq_true rfl) ?_
  intro p e U m args below meth c ls S hr hlk hin hK hH hE hsz hl
  have S : CallFix p m c cX6_init 2 U args lw_all RX6 := S
  have hx := S.1
  have hb := S.2.1
  have hl : lv_has ls 2 [(0, .ref q), (1, .int num)] := hl
  refine lv_aload_n (pc := 0) hx hb dX6_init_0 rfl (lv_at hl 0 rfl) ?_
  refine lv_iload_n (pc := 1) hx hb dX6_init_1 rfl (lv_at hl 1 rfl) ?_
  refine g_callI (pc := 2) (av := [.int num]) S hl gE_0_ok trivial hK hH (met_X3_init l D ct q U.heap.size kd num0 num hkd) q432 q82 q462 q431 rfl rfl rfl ⟨by decide, by decide, by show (parseMethodDescriptor yX3_init.desc).map (fun d => d.parameters.length) = some 1; decide +kernel⟩ ⟨Nat.le_of_ble_eq_true rfl, Nat.le_of_ble_eq_true rfl⟩ (fun _ h => Or.inl h) rfl (Nat.le_of_ble_eq_true rfl) dX6_init_2 ⟨Nat.le_of_ble_eq_true rfl, Nat.le_of_ble_eq_true rfl⟩ (fun H locs hH => ?_)
  exact g_vret (fun _ : Unit => WR kd num q) (st := ()) rfl S hr hlk hH dX6_init_5
theorem met_X7_init (l : Launch) (D : va_G) (ct : Nat → ClassId) (q sz kd : Nat) (num0 num : Int32) (hkd : kd < 6) : Met l yX7_init (ws_ yX7_init cX7_init 2 none) (rm_ri 2) (GPre gE_0 D ct [q] (WR kd num0 q) sz [.ref q, .int num]) (GQv D [q] [q] (WR kd num q) sz) 0 0 (gA [q] sz) := by
  refine g_metI (cc := cX7_init) (maxL := 2) (ret := none) (by decide) rfl (Nat.le_of_ble_eq_true rfl) ?_
  intro p e U m args below meth c ls S hr hlk hin hK hH hE hsz hl
  have S : CallFix p m c cX7_init 2 U args lw_all RX7 := S
  have hx := S.1
  have hb := S.2.1
  have hl : lv_has ls 2 [(0, .ref q), (1, .int num)] := hl
  refine lv_aload_n (pc := 0) hx hb dX7_init_0 rfl (lv_at hl 0 rfl) ?_
  refine lv_iload_n (pc := 1) hx hb dX7_init_1 rfl (lv_at hl 1 rfl) ?_
  refine g_callI (pc := 2) (av := [.int num]) S hl gE_0_ok trivial hK hH (met_X4_init l D ct q U.heap.size kd num0 num hkd) q445 q83 q470 q444 rfl rfl rfl ⟨by decide, by decide, by show (parseMethodDescriptor yX4_init.desc).map (fun d => d.parameters.length) = some 1; decide +kernel⟩ ⟨Nat.le_of_ble_eq_true rfl, Nat.le_of_ble_eq_true rfl⟩ (fun _ h => Or.inl h) rfl (Nat.le_of_ble_eq_true rfl) dX7_init_2 ⟨Nat.le_of_ble_eq_true rfl, Nat.le_of_ble_eq_true rfl⟩ (fun H locs hH => ?_)
  exact g_vret (fun _ : Unit => WR kd num q) (st := ()) rfl S hr hlk hH dX7_init_5
def X_ringKd (k : Int32) : Nat := if k = 1 then 1 else if k = 2 then 2 else if k = 3 then 3 else if k = 4 then 4 else if k = 5 then 5 else 0
theorem X_ringKd_lt (k : Int32) : X_ringKd k < 6 := by
  unfold X_ringKd
  repeat' split
  all_goals decide
def GQr (D : va_G) (sz kd : Nat) (num : Int32) : Array Value → State → Outcome → State → Prop := va_Qr (S := Unit) (fun _ => True) (fun _ q t => va_P D clA [(q, .inr (2 + kd, [.int num]))] t.heap ∧ sz ≤ q) (gA [] sz)
def rm_X_newRing : Room := { frames := 4, cells := 1, slots := 1, locals := 90 }
theorem met_X_newRing (l : Launch) (D : va_G) (ct : Nat → ClassId) (sz : Nat) (k num : Int32) : Met l yX0_newRing (ws_ yX0_newRing cX0_newRing 2 (some (.object RX2))) rm_X_newRing (GPre gE_0 D ct [] ([], True) sz [.int k, .int num]) (GQr D sz (X_ringKd k) num) 1 1 (gA [] sz) := by
  refine g_met (cc := cX0_newRing) (maxL := 2) (ret := (some (.object RX2))) (by decide) (Nat.le_of_ble_eq_true rfl) ?_
  intro p e U m args below meth c ls S hr hlk hK hH hE hsz hl
  subst hsz
  have S : CallFix p m c cX0_newRing 2 U args lw_all RX0 := S
  have hx := S.1
  have hb := S.2.1
  have hl : lv_has ls 2 [(0, .int k), (1, .int num)] := hl
  refine lv_iload_n (pc := 0) hx hb dX0_newRing_0 rfl (lv_at hl 0 rfl) ?_
  by_cases c1 : k = (1 : Int32)
  · have hkd : X_ringKd k = 1 := by unfold X_ringKd; rw [if_pos c1]
    refine lv_tabE (pc := 1) (off := 35) (tgt := 36) hx hb dX0_newRing_1 c1 (by decide) (by decide) rfl (by decide) ?_
    refine va_new (pc := 36) (own := RX0) (C := RX3) (T := TR) (N := 1) (ci := 2 + 1) (fs := [.int 0]) (A := gA [] U.heap.size) (H0 := U.heap) S.1 S.2.1 S.2.2.2.2 (rg_in (k := 1) (by decide)) (fun _ => .int) TR_ok S.2.2.2.1 (S.2.2.2.2 _ q428) (S.2.2.2.2 _ q429) (S.2.2.2.2 _ q82) hK hH.1 hH.D hH.2.2.1 hH.2.2.2.2.1 (rg_cl2 (k := 1) (by decide)) (fun j h => by cases j with | zero => rfl | succ j => omega) (Nat.le_of_ble_eq_true rfl) (Nat.le_of_ble_eq_true rfl) dX0_newRing_36 (fun q H hP hD hS => ?_)
    have hq : gA [] U.heap.size q := hD.2 0 _ rfl
    have hH : GH D (gA [] U.heap.size) [q] U.heap (WR 1 0 q) H [] := ⟨hP, D_iff.mpr ⟨by simp [WR], fun x h => by have h := List.mem_singleton.mp h; subst h; exact List.mem_singleton.mpr rfl⟩, hS, fun x h => by rw [List.mem_singleton.mp h]; exact hq, fun x h => Or.inr h, trivial⟩
    refine lv_dup (pc := 39) hx hb dX0_newRing_39 rfl ?_
    refine lv_iload_n (pc := 40) hx hb dX0_newRing_40 rfl (lv_at hl 1 rfl) ?_
    refine g_callI (pc := 41) (av := [.int num]) (rest := [.ref q]) S hl gE_0_ok trivial hK hH (met_X3_init l D ct q H.size 1 0 num (by decide)) q432 q82 q430 q431 rfl rfl rfl ⟨by decide, by decide, by show (parseMethodDescriptor yX3_init.desc).map (fun d => d.parameters.length) = some 1; decide +kernel⟩ ⟨Nat.le_of_ble_eq_true rfl, Nat.le_of_ble_eq_true rfl⟩ (fun _ h => Or.inl h) rfl (Nat.le_of_ble_eq_true rfl) dX0_newRing_41 ⟨Nat.le_of_ble_eq_true rfl, Nat.le_of_ble_eq_true rfl⟩ (fun H locs hH => ?_)
    refine W.aret hx hb hr (Or.inl ⟨_, rfl⟩) (Or.inr ⟨q, rfl⟩) (fun t ht _ => ⟨⟨(), q, rfl, trivial, ?_, hq.elim (fun h => by cases h) (fun h => h)⟩, hH.2.2.1.F ht⟩) hH.2.2.1.2.2 dX0_newRing_44 hlk
    rw [ht, hkd]
    exact hH.1
  by_cases c2 : k = (2 : Int32)
  · have hkd : X_ringKd k = 2 := by unfold X_ringKd; rw [if_neg c1, if_pos c2]
    refine lv_tabE (pc := 1) (off := 44) (tgt := 45) hx hb dX0_newRing_1 c2 (by decide) (by decide) rfl (by decide) ?_
    refine va_new (pc := 45) (own := RX0) (C := RX4) (T := TR) (N := 1) (ci := 2 + 2) (fs := [.int 0]) (A := gA [] U.heap.size) (H0 := U.heap) S.1 S.2.1 S.2.2.2.2 (rg_in (k := 2) (by decide)) (fun _ => .int) TR_ok S.2.2.2.1 (S.2.2.2.2 _ q441) (S.2.2.2.2 _ q442) (S.2.2.2.2 _ q83) hK hH.1 hH.D hH.2.2.1 hH.2.2.2.2.1 (rg_cl2 (k := 2) (by decide)) (fun j h => by cases j with | zero => rfl | succ j => omega) (Nat.le_of_ble_eq_true rfl) (Nat.le_of_ble_eq_true rfl) dX0_newRing_45 (fun q H hP hD hS => ?_)
    have hq : gA [] U.heap.size q := hD.2 0 _ rfl
    have hH : GH D (gA [] U.heap.size) [q] U.heap (WR 2 0 q) H [] := ⟨hP, D_iff.mpr ⟨by simp [WR], fun x h => by have h := List.mem_singleton.mp h; subst h; exact List.mem_singleton.mpr rfl⟩, hS, fun x h => by rw [List.mem_singleton.mp h]; exact hq, fun x h => Or.inr h, trivial⟩
    refine lv_dup (pc := 48) hx hb dX0_newRing_48 rfl ?_
    refine lv_iload_n (pc := 49) hx hb dX0_newRing_49 rfl (lv_at hl 1 rfl) ?_
    refine g_callI (pc := 50) (av := [.int num]) (rest := [.ref q]) S hl gE_0_ok trivial hK hH (met_X4_init l D ct q H.size 2 0 num (by decide)) q445 q83 q443 q444 rfl rfl rfl ⟨by decide, by decide, by show (parseMethodDescriptor yX4_init.desc).map (fun d => d.parameters.length) = some 1; decide +kernel⟩ ⟨Nat.le_of_ble_eq_true rfl, Nat.le_of_ble_eq_true rfl⟩ (fun _ h => Or.inl h) rfl (Nat.le_of_ble_eq_true rfl) dX0_newRing_50 ⟨Nat.le_of_ble_eq_true rfl, Nat.le_of_ble_eq_true rfl⟩ (fun H locs hH => ?_)
    refine W.aret hx hb hr (Or.inl ⟨_, rfl⟩) (Or.inr ⟨q, rfl⟩) (fun t ht _ => ⟨⟨(), q, rfl, trivial, ?_, hq.elim (fun h => by cases h) (fun h => h)⟩, hH.2.2.1.F ht⟩) hH.2.2.1.2.2 dX0_newRing_53 hlk
    rw [ht, hkd]
    exact hH.1
  by_cases c3 : k = (3 : Int32)
  · have hkd : X_ringKd k = 3 := by unfold X_ringKd; rw [if_neg c1, if_neg c2, if_pos c3]
    refine lv_tabE (pc := 1) (off := 53) (tgt := 54) hx hb dX0_newRing_1 c3 (by decide) (by decide) rfl (by decide) ?_
    refine va_new (pc := 54) (own := RX0) (C := RX5) (T := TR) (N := 1) (ci := 2 + 3) (fs := [.int 0]) (A := gA [] U.heap.size) (H0 := U.heap) S.1 S.2.1 S.2.2.2.2 (rg_in (k := 3) (by decide)) (fun _ => .int) TR_ok S.2.2.2.1 (S.2.2.2.2 _ q449) (S.2.2.2.2 _ q450) (S.2.2.2.2 _ q84) hK hH.1 hH.D hH.2.2.1 hH.2.2.2.2.1 (rg_cl2 (k := 3) (by decide)) (fun j h => by cases j with | zero => rfl | succ j => omega) (Nat.le_of_ble_eq_true rfl) (Nat.le_of_ble_eq_true rfl) dX0_newRing_54 (fun q H hP hD hS => ?_)
    have hq : gA [] U.heap.size q := hD.2 0 _ rfl
    have hH : GH D (gA [] U.heap.size) [q] U.heap (WR 3 0 q) H [] := ⟨hP, D_iff.mpr ⟨by simp [WR], fun x h => by have h := List.mem_singleton.mp h; subst h; exact List.mem_singleton.mpr rfl⟩, hS, fun x h => by rw [List.mem_singleton.mp h]; exact hq, fun x h => Or.inr h, trivial⟩
    refine lv_dup (pc := 57) hx hb dX0_newRing_57 rfl ?_
    refine lv_iload_n (pc := 58) hx hb dX0_newRing_58 rfl (lv_at hl 1 rfl) ?_
    refine g_callI (pc := 59) (av := [.int num]) (rest := [.ref q]) S hl gE_0_ok trivial hK hH (met_X5_init l D ct q H.size 3 0 num (by decide)) q453 q84 q451 q452 rfl rfl rfl ⟨by decide, by decide, by show (parseMethodDescriptor yX5_init.desc).map (fun d => d.parameters.length) = some 1; decide +kernel⟩ ⟨Nat.le_of_ble_eq_true rfl, Nat.le_of_ble_eq_true rfl⟩ (fun _ h => Or.inl h) rfl (Nat.le_of_ble_eq_true rfl) dX0_newRing_59 ⟨Nat.le_of_ble_eq_true rfl, Nat.le_of_ble_eq_true rfl⟩ (fun H locs hH => ?_)
    refine W.aret hx hb hr (Or.inl ⟨_, rfl⟩) (Or.inr ⟨q, rfl⟩) (fun t ht _ => ⟨⟨(), q, rfl, trivial, ?_, hq.elim (fun h => by cases h) (fun h => h)⟩, hH.2.2.1.F ht⟩) hH.2.2.1.2.2 dX0_newRing_62 hlk
    rw [ht, hkd]
    exact hH.1
  by_cases c4 : k = (4 : Int32)
  · have hkd : X_ringKd k = 4 := by unfold X_ringKd; rw [if_neg c1, if_neg c2, if_neg c3, if_pos c4]
    refine lv_tabE (pc := 1) (off := 62) (tgt := 63) hx hb dX0_newRing_1 c4 (by decide) (by decide) rfl (by decide) ?_
    refine va_new (pc := 63) (own := RX0) (C := RX6) (T := TR) (N := 1) (ci := 2 + 4) (fs := [.int 0]) (A := gA [] U.heap.size) (H0 := U.heap) S.1 S.2.1 S.2.2.2.2 (rg_in (k := 4) (by decide)) (fun _ => .int) TR_ok S.2.2.2.1 (S.2.2.2.2 _ q457) (S.2.2.2.2 _ q458) (S.2.2.2.2 _ q85) hK hH.1 hH.D hH.2.2.1 hH.2.2.2.2.1 (rg_cl2 (k := 4) (by decide)) (fun j h => by cases j with | zero => rfl | succ j => omega) (Nat.le_of_ble_eq_true rfl) (Nat.le_of_ble_eq_true rfl) dX0_newRing_63 (fun q H hP hD hS => ?_)
    have hq : gA [] U.heap.size q := hD.2 0 _ rfl
    have hH : GH D (gA [] U.heap.size) [q] U.heap (WR 4 0 q) H [] := ⟨hP, D_iff.mpr ⟨by simp [WR], fun x h => by have h := List.mem_singleton.mp h; subst h; exact List.mem_singleton.mpr rfl⟩, hS, fun x h => by rw [List.mem_singleton.mp h]; exact hq, fun x h => Or.inr h, trivial⟩
    refine lv_dup (pc := 66) hx hb dX0_newRing_66 rfl ?_
    refine lv_iload_n (pc := 67) hx hb dX0_newRing_67 rfl (lv_at hl 1 rfl) ?_
    refine g_callI (pc := 68) (av := [.int num]) (rest := [.ref q]) S hl gE_0_ok trivial hK hH (met_X6_init l D ct q H.size 4 0 num (by decide)) q461 q85 q459 q460 rfl rfl rfl ⟨by decide, by decide, by show (parseMethodDescriptor yX6_init.desc).map (fun d => d.parameters.length) = some 1; decide +kernel⟩ ⟨Nat.le_of_ble_eq_true rfl, Nat.le_of_ble_eq_true rfl⟩ (fun _ h => Or.inl h) rfl (Nat.le_of_ble_eq_true rfl) dX0_newRing_68 ⟨Nat.le_of_ble_eq_true rfl, Nat.le_of_ble_eq_true rfl⟩ (fun H locs hH => ?_)
    refine W.aret hx hb hr (Or.inl ⟨_, rfl⟩) (Or.inr ⟨q, rfl⟩) (fun t ht _ => ⟨⟨(), q, rfl, trivial, ?_, hq.elim (fun h => by cases h) (fun h => h)⟩, hH.2.2.1.F ht⟩) hH.2.2.1.2.2 dX0_newRing_71 hlk
    rw [ht, hkd]
    exact hH.1
  by_cases c5 : k = (5 : Int32)
  · have hkd : X_ringKd k = 5 := by unfold X_ringKd; rw [if_neg c1, if_neg c2, if_neg c3, if_neg c4, if_pos c5]
    refine lv_tabE (pc := 1) (off := 71) (tgt := 72) hx hb dX0_newRing_1 c5 (by decide) (by decide) rfl (by decide) ?_
    refine va_new (pc := 72) (own := RX0) (C := RX7) (T := TR) (N := 1) (ci := 2 + 5) (fs := [.int 0]) (A := gA [] U.heap.size) (H0 := U.heap) S.1 S.2.1 S.2.2.2.2 (rg_in (k := 5) (by decide)) (fun _ => .int) TR_ok S.2.2.2.1 (S.2.2.2.2 _ q465) (S.2.2.2.2 _ q466) (S.2.2.2.2 _ q86) hK hH.1 hH.D hH.2.2.1 hH.2.2.2.2.1 (rg_cl2 (k := 5) (by decide)) (fun j h => by cases j with | zero => rfl | succ j => omega) (Nat.le_of_ble_eq_true rfl) (Nat.le_of_ble_eq_true rfl) dX0_newRing_72 (fun q H hP hD hS => ?_)
    have hq : gA [] U.heap.size q := hD.2 0 _ rfl
    have hH : GH D (gA [] U.heap.size) [q] U.heap (WR 5 0 q) H [] := ⟨hP, D_iff.mpr ⟨by simp [WR], fun x h => by have h := List.mem_singleton.mp h; subst h; exact List.mem_singleton.mpr rfl⟩, hS, fun x h => by rw [List.mem_singleton.mp h]; exact hq, fun x h => Or.inr h, trivial⟩
    refine lv_dup (pc := 75) hx hb dX0_newRing_75 rfl ?_
    refine lv_iload_n (pc := 76) hx hb dX0_newRing_76 rfl (lv_at hl 1 rfl) ?_
    refine g_callI (pc := 77) (av := [.int num]) (rest := [.ref q]) S hl gE_0_ok trivial hK hH (met_X7_init l D ct q H.size 5 0 num (by decide)) q469 q86 q467 q468 rfl rfl rfl ⟨by decide, by decide, by show (parseMethodDescriptor yX7_init.desc).map (fun d => d.parameters.length) = some 1; decide +kernel⟩ ⟨Nat.le_of_ble_eq_true rfl, Nat.le_of_ble_eq_true rfl⟩ (fun _ h => Or.inl h) rfl (Nat.le_of_ble_eq_true rfl) dX0_newRing_77 ⟨Nat.le_of_ble_eq_true rfl, Nat.le_of_ble_eq_true rfl⟩ (fun H locs hH => ?_)
    refine W.aret hx hb hr (Or.inl ⟨_, rfl⟩) (Or.inr ⟨q, rfl⟩) (fun t ht _ => ⟨⟨(), q, rfl, trivial, ?_, hq.elim (fun h => by cases h) (fun h => h)⟩, hH.2.2.1.F ht⟩) hH.2.2.1.2.2 dX0_newRing_80 hlk
    rw [ht, hkd]
    exact hH.1
  have hkd : X_ringKd k = 0 := by unfold X_ringKd; rw [if_neg c1, if_neg c2, if_neg c3, if_neg c4, if_neg c5]
  refine lv_tableOut (pc := 1) (tgt := 81) hx hb dX0_newRing_1 (by have z1 := lv_neT c1 (a := 1) (by decide); have z2 := lv_neT c2 (a := 2) (by decide); have z3 := lv_neT c3 (a := 3) (by decide); have z4 := lv_neT c4 (a := 4) (by decide); have z5 := lv_neT c5 (a := 5) (by decide); omega) (by decide) ?_
  refine va_new (pc := 81) (own := RX0) (C := RX2) (T := TR) (N := 1) (ci := 2 + 0) (fs := [.int 0]) (A := gA [] U.heap.size) (H0 := U.heap) S.1 S.2.1 S.2.2.2.2 (rg_in (k := 0) (by decide)) (fun _ => .int) TR_ok S.2.2.2.1 (S.2.2.2.2 _ q103) (S.2.2.2.2 _ q473) (S.2.2.2.2 _ q81) hK hH.1 hH.D hH.2.2.1 hH.2.2.2.2.1 (rg_cl2 (k := 0) (by decide)) (fun j h => by cases j with | zero => rfl | succ j => omega) (Nat.le_of_ble_eq_true rfl) (Nat.le_of_ble_eq_true rfl) dX0_newRing_81 (fun q H hP hD hS => ?_)
  have hq : gA [] U.heap.size q := hD.2 0 _ rfl
  have hH : GH D (gA [] U.heap.size) [q] U.heap (WR 0 0 q) H [] := ⟨hP, D_iff.mpr ⟨by simp [WR], fun x h => by have h := List.mem_singleton.mp h; subst h; exact List.mem_singleton.mpr rfl⟩, hS, fun x h => by rw [List.mem_singleton.mp h]; exact hq, fun x h => Or.inr h, trivial⟩
  refine lv_dup (pc := 84) hx hb dX0_newRing_84 rfl ?_
  refine lv_iload_n (pc := 85) hx hb dX0_newRing_85 rfl (lv_at hl 1 rfl) ?_
  refine g_callI (pc := 86) (av := [.int num]) (rest := [.ref q]) S hl gE_0_ok trivial hK hH (met_X2_init l D ct q H.size 0 0 num (by decide)) q435 q81 q474 q434 rfl rfl rfl ⟨by decide, by decide, by show (parseMethodDescriptor yX2_init.desc).map (fun d => d.parameters.length) = some 1; decide +kernel⟩ ⟨Nat.le_of_ble_eq_true rfl, Nat.le_of_ble_eq_true rfl⟩ (fun _ h => Or.inl h) rfl (Nat.le_of_ble_eq_true rfl) dX0_newRing_86 ⟨Nat.le_of_ble_eq_true rfl, Nat.le_of_ble_eq_true rfl⟩ (fun H locs hH => ?_)
  refine W.aret hx hb hr (Or.inl ⟨_, rfl⟩) (Or.inr ⟨q, rfl⟩) (fun t ht _ => ⟨⟨(), q, rfl, trivial, ?_, hq.elim (fun h => by cases h) (fun h => h)⟩, hH.2.2.1.F ht⟩) hH.2.2.1.2.2 dX0_newRing_89 hlk
  rw [ht, hkd]
  exact hH.1
section RN2
variable {p : Program} {l : Launch} {e : Env} {R : Room} {s : State} {m : MethodId} {args : Array Value} {below : List Frame} {meth : Method} {c : Code} {H : Heap} {locs : List Loc} {cells slots : Nat} {Q : State → Prop}
variable {cc bytes : ByteArray} {pc nL maxL idx mc ms sz q kd N j : Nat} {num i x : Int32} {ls : Array Slot} {rest av st0 : List Value} {lv : List (Nat × Value)} {D : va_G} {ct : Nat → ClassId} {A : Nat → Prop} {as : List Nat} {H0 : Heap} {ws : va_W × Prop} {own : String} {a : XA} {st st1 : XS} {y : MethodName} {ret : Option FieldType} {rm : Room} {E : State → Prop}
/-- the call of newRing: the ring lies behind the world -/
theorem call_newRing {k : Int32} (S : CallFix p m c cc nL s args lw_all own) (hl : lv_has ls nL lv) (hK : va_K D clA (tysG ct) s) (hH : GH D A (xAs a) H0 (WX ct a none st) H locs) (hlk : Cond.methodLink own idx yX0_newRing ∈ lw_all) (hR : 5 ≤ R.frames ∧ 120 ≤ R.locals) (hsum : (rest.map fun v => v.category).sum ≤ 8) (hdg : decode cc pc = .ok (.invokestatic idx, 3)) (hf : cells + 1 ≤ R.cells ∧ slots + 1 ≤ R.slots)
    (kk : ∀ (q : Nat) (H1 : Heap) (locs1 : List Loc), GN D A (xAs a) H0 (WX ct a none st) [(q, .inr (2 + X_ringKd k, [.int num]))] H1 locs1 → W p l e R s m args below meth c H1 locs1 (cells + 1) (slots + 1) Q (F0 m (pc + 3) ls (.ref q :: rest))) : W p l e R s m args below meth c H locs cells slots Q (F0 m pc ls (.int num :: .int k :: rest)) := by
  have hp : PreS s H (GPre gE_0 D ct [] ([], True) H.size [.int k, .int num]) [.int k, .int num] := ⟨g_blind gE_0_ok, fun U hU hW => ⟨rfl, by rw [hU], (fun k0 q h => by cases h), va_K.moved hW.alike hK, D_iff.mpr ⟨List.nodup_nil, fun _ h => by cases h⟩, trivial, trivial⟩⟩
  have hf0 : ∀ q, gA [] H.size q → A q := fun q h => h.elim (fun h => by cases h) (fun h => hH.2.2.2.2.1 q (Nat.le_trans hH.2.2.1.1 h))
  refine va_callr (va_runS (As := [.int k, .int num]) (rest := rest) S (met_X_newRing l D ct H.size k num) (va_cwS 2 S.2.2.2.2 (lw_S hlk q426 q69 q427) rfl rfl rfl ⟨by decide, by decide, by show (parseMethodDescriptor yX0_newRing.desc).map (fun d => d.parameters.length) = some 2; decide +kernel⟩ ⟨by show 4 + 1 ≤ _; omega, by show 8 + (2 + 11) + 90 ≤ _; omega⟩) hp rfl rfl hl.1 rfl (lv_room hsum) hdg hf) hH.2.2.1 (fun q _ h => hf0 q h) hf0 (fun u q t H1 locs1 ht hvm hr hB hz hk hS => ?_)
  obtain ⟨hP1, hq⟩ := hB
  rw [ht] at hP1
  refine kk q H1 locs1 ⟨va_P.app (hH.1.kept fun k0 x hx => hk _ (hH.1 k0 x hx).lt (fun h => h.elim (fun h => by cases h) (fun h => absurd (hH.1 k0 x hx).lt (Nat.not_lt.mpr h)))) hP1, va_D.app hH.D (D_iff.mpr ⟨by simp, fun x h => by rw [List.mem_singleton.mp h]; exact hf0 q (Or.inr hq)⟩) (fun i j x y hx hy hxy => ?_), hS, hH.2.2.2⟩
  have h1 := (hH.1 i x hx).lt
  have h2 : y = (q, .inr (2 + X_ringKd k, [.int num])) := List.mem_singleton.mp (List.mem_of_getElem? hy)
  rw [hxy, h2] at h1
  exact Nat.not_lt.mpr hq h1
/-- a ring into an array of rings, of whatever kind it is -/
theorem g_astR {ws : va_W} (hexec : p.tables.exec = Jvm.exec) (hb : c.code = cc) (hE : gEX s) (hK : va_K D clA (tysG ct) s) (hP : va_P D clA ws H) (hD : va_D A ws) (hS : va_S A H0 H locs) (q0 qk : Nat) (hkd : kd < 6) {aa n v : Nat} {vs : List Value} {f : Nat → Option Nat} (ha : ws[q0]? = some (aa, .inl (ct 5, n, .inr (.inr (.inr (.inr f)))))) (hv : ws[qk]? = some (v, .inr (2 + kd, vs))) (hin : vp_in i n) (hdg : decode cc pc = .ok (.aastore, 1))
    (kk : ∀ (H1 : Heap) (locs1 : List Loc), va_P D clA (ws.set q0 (aa, .inl (ct 5, n, .inr (.inr (.inr (.inr (va_up f i.toNatClampNeg (some v)))))))) H1 → va_D A (ws.set q0 (aa, .inl (ct 5, n, .inr (.inr (.inr (.inr (va_up f i.toNatClampNeg (some v)))))))) → va_S A H0 H1 locs1 → W p l e R s m args below meth c H1 locs1 cells slots Q (F0 m (pc + 1) ls rest)) : W p l e R s m args below meth c H locs cells slots Q (F0 m pc ls (.ref v :: .int i :: .ref aa :: rest)) := by
  match kd, hkd, hv with
  | 0, _, hv => exact va_astq (cl := clA) (r := (RX2, TX2, 1)) hexec hb hK hP hD hS q0 5 qk 2 ha rfl hv rfl hin hdg kk
  | 1, _, hv => exact va_astqO (cl := clA) (r := (RX3, TX3, 1)) (E := RX2) hexec hb hK hP hD hS q0 5 qk 3 ha rfl (hE.1 _ (List.mem_of_getElem? (i := 14) rfl)) hv rfl hin hdg kk
  | 2, _, hv => exact va_astqO (cl := clA) (r := (RX4, TX4, 1)) (E := RX2) hexec hb hK hP hD hS q0 5 qk 4 ha rfl (hE.1 _ (List.mem_of_getElem? (i := 15) rfl)) hv rfl hin hdg kk
  | 3, _, hv => exact va_astqO (cl := clA) (r := (RX5, TX5, 1)) (E := RX2) hexec hb hK hP hD hS q0 5 qk 5 ha rfl (hE.1 _ (List.mem_of_getElem? (i := 16) rfl)) hv rfl hin hdg kk
  | 4, _, hv => exact va_astqO (cl := clA) (r := (RX6, TX6, 1)) (E := RX2) hexec hb hK hP hD hS q0 5 qk 6 ha rfl (hE.1 _ (List.mem_of_getElem? (i := 18) rfl)) hv rfl hin hdg kk
  | 5, _, hv => exact va_astqO (cl := clA) (r := (RX7, TX7, 1)) (E := RX2) hexec hb hK hP hD hS q0 5 qk 7 ha rfl (hE.1 _ (List.mem_of_getElem? (i := 20) rfl)) hv rfl hin hdg kk
  | k + 6, h, _ => exact absurd h (by omega)
theorem xa_like {q : Nat} (hkd : kd < 6) (S : CallFix p m c cc nL s args lw_all own) (hE : gEX s) (hK : va_K D clA (tysG ct) s) (hH : GN D A (xAs a) H0 (WX ct a none st) [(q, .inr (2 + kd, [.int num]))] H locs) (hv : bs_ix 6 i = some j) (he : st1 = sxg st j (some (kd, num))) (hdg : decode cc pc = .ok (.aastore, 1))
    (k : ∀ (b : XB) (H1 : Heap) (locs1 : List Loc), GH D A (xAs (a.1, b)) H0 (WX ct (a.1, b) none st1) H1 locs1 → W p l e R s m args below meth c H1 locs1 cells slots Q (F0 m (pc + 1) ls rest)) : W p l e R s m args below meth c H locs cells slots Q (F0 m pc ls (.ref q :: .int i :: .ref (ah a 4) :: rest)) := by
  obtain ⟨h1, h2⟩ := bs_ix_spec hv
  have hj := bs_ix_lt hv
  subst he
  obtain ⟨hP, hD, hS, hA, hA2, hX⟩ := hH
  refine g_astR S.1 S.2.1 hE hK hP hD hS 4 (WX ct a none st).1.length hkd rfl (List.getElem?_concat_length) h1 hdg (fun H1 locs1 hP1 hD1 hS1 => ?_)
  rw [h2] at hP1 hD1
  obtain ⟨P1, P2, e1, e2, -, e4⟩ := wx_like ct a none st hj
  have hl2 : 4 < (WX ct a none st).1.length := by rw [e1, List.length_append]; omega
  rw [List.set_append_left _ _ hl2, e1, List.set_append_left _ _ (by omega)] at hP1 hD1
  obtain ⟨hP2, hD2⟩ := w_repl hP1 hD1
  have e5 := e4 none (some q) (some (kd, num))
  have hp : gP (axg a j (some q)) (sxg st j (some (kd, num))) j = [(q, .inr (2 + kd, [.int num]))] := by
    unfold gP
    rw [show ag (axg a j (some q)) j = some q from va_up_self _ _ _, show xg (sxg st j (some (kd, num))) j = some (kd, num) from va_up_self _ _ _]
  rw [hp] at e5
  rw [← e5] at hP2 hD2
  exact k (axg a j (some q)).2 H1 locs1 ⟨hP2, D_as hD2, hS1, fun x hx => (as_g x hx).elim (hA x) (fun h => by cases h; exact hD.2 (WX ct a none st).1.length (q, _) (List.getElem?_concat_length)), hA2, xok_gg hX.1 j _ _ rfl (fun w h => by cases h; exact hkd), fun t h => by cases h⟩
theorem xa_ring {q : Nat} (hkd : kd < 6) (S : CallFix p m c cc nL s args lw_all own) (hE : gEX s) (hK : va_K D clA (tysG ct) s) (hH : GN D A (xAs a) H0 (WX ct a none st) [(q, .inr (2 + kd, [.int num]))] H locs) (hv : bs_ix 5 i = some j) (he : st1 = sxg st (6 + j) (some (kd, num))) (hdg : decode cc pc = .ok (.aastore, 1))
    (k : ∀ (b : XB) (H1 : Heap) (locs1 : List Loc), GH D A (xAs (a.1, b)) H0 (WX ct (a.1, b) none st1) H1 locs1 → W p l e R s m args below meth c H1 locs1 cells slots Q (F0 m (pc + 1) ls rest)) : W p l e R s m args below meth c H locs cells slots Q (F0 m pc ls (.ref q :: .int i :: .ref (ah a 5) :: rest)) := by
  obtain ⟨h1, h2⟩ := bs_ix_spec hv
  have hj := bs_ix_lt hv
  subst he
  obtain ⟨hP, hD, hS, hA, hA2, hX⟩ := hH
  refine g_astR S.1 S.2.1 hE hK hP hD hS 5 (WX ct a none st).1.length hkd rfl (List.getElem?_concat_length) h1 hdg (fun H1 locs1 hP1 hD1 hS1 => ?_)
  rw [h2] at hP1 hD1
  obtain ⟨P1, P2, e1, e2, -, e4⟩ := wx_ring ct a none st hj
  have hl2 : 5 < (WX ct a none st).1.length := by rw [e1, List.length_append]; omega
  rw [List.set_append_left _ _ hl2, e1, List.set_append_left _ _ (by omega)] at hP1 hD1
  obtain ⟨hP2, hD2⟩ := w_repl hP1 hD1
  have e5 := e4 none (some q) (some (kd, num))
  have hp : gP (axg a (6 + j) (some q)) (sxg st (6 + j) (some (kd, num))) (6 + j) = [(q, .inr (2 + kd, [.int num]))] := by
    unfold gP
    rw [show ag (axg a (6 + j) (some q)) (6 + j) = some q from va_up_self _ _ _, show xg (sxg st (6 + j) (some (kd, num))) (6 + j) = some (kd, num) from va_up_self _ _ _]
  rw [hp] at e5
  rw [← e5] at hP2 hD2
  exact k (axg a (6 + j) (some q)).2 H1 locs1 ⟨hP2, D_as hD2, hS1, fun x hx => (as_g x hx).elim (hA x) (fun h => by cases h; exact hD.2 (WX ct a none st).1.length (q, _) (List.getElem?_concat_length)), hA2, xok_gg hX.1 (6 + j) _ _ rfl (fun w h => by cases h; exact hkd), fun t h => by cases h⟩
end RN2
