/-! BASE: readings of methods as option-valued functions; worlds as lists of cells; contracts and calls over them -/
set_option maxRecDepth 100000
def bs_in (i : Int32) (n : Nat) : Bool := !(decide (i < 0)) && decide (i.toNatClampNeg < n)
theorem bs_in_spec {i : Int32} {n : Nat} (h : bs_in i n = true) : vp_in i n := by
  simp only [bs_in, Bool.and_eq_true, Bool.not_eq_true', decide_eq_false_iff_not, decide_eq_true_eq] at h
  intro q
  rcases q with q | q
  · exact h.1 q
  · exact absurd q (Nat.not_le.mpr h.2)
theorem bs_in_of {i : Int32} {n : Nat} (h : vp_in i n) : bs_in i n = true := by
  simp only [bs_in, Bool.and_eq_true, Bool.not_eq_true', decide_eq_false_iff_not, decide_eq_true_eq]
  exact ⟨fun q => h (Or.inl q), Nat.not_le.mp fun q => h (Or.inr q)⟩
/-- a place of an array is read -/
def bs_ld (f : Nat → Int32) (n : Nat) (i : Int32) : Option Int32 := if bs_in i n = true then some (f i.toNatClampNeg) else none
theorem bs_ld_spec {f : Nat → Int32} {n : Nat} {i v : Int32} (h : bs_ld f n i = some v) : vp_in i n ∧ f i.toNatClampNeg = v := by
  unfold bs_ld at h
  by_cases c : bs_in i n = true
  · rw [if_pos c] at h
    exact ⟨bs_in_spec c, Option.some.inj h⟩
  · rw [if_neg c] at h
    cases h
def bs_let {α β : Type} (e : α) (K : α → Option β) : Option β := K e
theorem bs_let_spec {α β : Type} {e : α} {K : α → Option β} {z : β} (h : bs_let e K = some z) : ∃ x, x = e ∧ K x = some z := ⟨e, rfl, h⟩
theorem bs_bd {α β : Type} {o : Option α} {K : α → Option β} {z : β} (h : o.bind K = some z) : ∃ a, o = some a ∧ K a = some z := Option.bind_eq_some_iff.mp h
theorem if_t {α : Type} {c : Prop} [Decidable c] {a b x : α} (h : c) (e : (if c then a else b) = x) : a = x := by rw [if_pos h] at e; exact e
theorem if_n {α : Type} {c : Prop} [Decidable c] {a b x : α} (h : ¬ c) (e : (if c then a else b) = x) : b = x := by rw [if_neg h] at e; exact e
def bs_nz {β : Type} (y : Int32) (K : Option β) : Option β := if y = 0 then none else K
theorem bs_nz_spec {β : Type} {y : Int32} {K : Option β} {z : β} (h : bs_nz y K = some z) : ¬ y = 0 ∧ K = some z := by
  unfold bs_nz at h
  by_cases c : y = 0
  · rw [if_pos c] at h; cases h
  · rw [if_neg c] at h; exact ⟨c, h⟩
def bs_nzl {β : Type} (y : Int64) (K : Option β) : Option β := if y = 0 then none else K
theorem bs_nzl_spec {β : Type} {y : Int64} {K : Option β} {z : β} (h : bs_nzl y K = some z) : ¬ y = 0 ∧ K = some z := by
  unfold bs_nzl at h
  by_cases c : y = 0
  · rw [if_pos c] at h; cases h
  · rw [if_neg c] at h; exact ⟨c, h⟩
/-- a truth value is given back -/
def bs_gb {β : Type} (v : Int32) (K : Option β) : Option β := if v = 0 ∨ v = 1 then K else none
theorem bs_gb_spec {β : Type} {v : Int32} {K : Option β} {z : β} (h : bs_gb v K = some z) : narrow .boolean (.int v) = .int v ∧ K = some z := by
  unfold bs_gb at h
  by_cases c : v = 0 ∨ v = 1
  · rw [if_pos c] at h
    refine ⟨?_, h⟩
    rcases c with rfl | rfl <;> rfl
  · rw [if_neg c] at h; cases h
/-- how often a loop's picture may go round -/
def bs_fu : Nat := 1000
/-! states: whole numbers, long ones, arrays of whole numbers, each by its place -/
abbrev MS : Type := (Nat → Int32) × (Nat → Int64) × (Nat → Nat → Int32)
def mi (s : MS) (k : Nat) : Int32 := s.1 k
def ml (s : MS) (k : Nat) : Int64 := s.2.1 k
def ma (s : MS) (k : Nat) : Nat → Int32 := s.2.2 k
def smi (s : MS) (k : Nat) (v : Int32) : MS := (upd s.1 k v, s.2.1, s.2.2)
def sml (s : MS) (k : Nat) (v : Int64) : MS := (s.1, vp_updL s.2.1 k v, s.2.2)
def sma (s : MS) (k : Nat) (f : Nat → Int32) : MS := (s.1, s.2.1, va_up s.2.2 k f)
def mast (s : MS) (k n : Nat) (i x : Int32) : Option MS := if bs_in i n = true then some (sma s k (upd (ma s k) i.toNatClampNeg x)) else none
theorem mast_spec {s t : MS} {k n : Nat} {i x : Int32} (h : mast s k n i x = some t) : vp_in i n ∧ t = sma s k (upd (ma s k) i.toNatClampNeg x) := by
  unfold mast at h
  by_cases c : bs_in i n = true
  · rw [if_pos c] at h
    exact ⟨bs_in_spec c, (Option.some.inj h).symm⟩
  · rw [if_neg c] at h
    cases h
/-! worlds -/
def gA (as : List Nat) (sz : Nat) : Nat → Prop := fun q => q ∈ as ∨ sz ≤ q
def gE_ok (E : State → Prop) : Prop := (∀ s U : State, s.WarmedH U.vm → E s → E U) ∧ ∀ s U : State, s.vm = U.vm → E s → E U
def gE_0 : State → Prop := fun _ => True
theorem gE_0_ok : gE_ok gE_0 := ⟨fun _ _ _ _ => trivial, fun _ _ _ _ => trivial⟩
def clA : List vw_C := [(RX0, TX0, 27), (RX1, TX1, 17), (RX2, TX2, 1), (RX3, TX3, 1), (RX4, TX4, 1), (RX5, TX5, 1), (RX6, TX6, 1), (RX7, TX7, 1), (RX8, TX8, 3)]
def tysG (ct : Nat → ClassId) : List (ClassId × FieldType) := [(ct 0, .int), (ct 1, .boolean), (ct 2, .byte), (ct 3, .array .int), (ct 4, .array .byte), (ct 5, .object RX2), (ct 6, .object RX8)]
def GPre (E : State → Prop) (D : va_G) (ct : Nat → ClassId) (as : List Nat) (ws : va_W × Prop) (sz : Nat) (av : List Value) : Array Value → State → Prop :=
  va_Pc av (fun U => U.heap.size = sz ∧ va_P D clA ws.1 U.heap ∧ va_K D clA (tysG ct) U ∧ va_D (fun q => q ∈ as) ws.1 ∧ E U ∧ ws.2)
def GB (D : va_G) (as : List Nat) (ws : va_W × Prop) : Unit → State → Prop := fun _ t => va_P D clA ws.1 t.heap ∧ va_D (fun q => q ∈ as) ws.1 ∧ ws.2
def GQi (D : va_G) (as0 as : List Nat) (ws : va_W × Prop) (sz : Nat) (v : Int32) : Array Value → State → Outcome → State → Prop := va_Qi (S := Unit) (fun r _ => r = v) (GB D as ws) (gA as0 sz)
def GQl (D : va_G) (as0 as : List Nat) (ws : va_W × Prop) (sz : Nat) (v : Int64) : Array Value → State → Outcome → State → Prop := va_Ql (S := Unit) (fun r _ => r = v) (GB D as ws) (gA as0 sz)
def GQv (D : va_G) (as0 as : List Nat) (ws : va_W × Prop) (sz : Nat) : Array Value → State → Outcome → State → Prop := va_Qv (S := Unit) (fun _ => True) (GB D as ws) (gA as0 sz)
def GH (D : va_G) (A : Nat → Prop) (as : List Nat) (H0 : Heap) (ws : va_W × Prop) (H : Heap) (locs : List Loc) : Prop :=
  va_P D clA ws.1 H ∧ va_D (fun q => q ∈ as) ws.1 ∧ va_S A H0 H locs ∧ (∀ q, q ∈ as → A q) ∧ (∀ q, H0.size ≤ q → A q) ∧ ws.2
theorem GH.D {D : va_G} {A : Nat → Prop} {as : List Nat} {H0 : Heap} {ws : va_W × Prop} {H : Heap} {locs : List Loc} (h : GH D A as H0 ws H locs) : va_D A ws.1 := h.2.1.weaken (fun _ _ _ q => h.2.2.2.1 _ q)
theorem g_blind {E : State → Prop} {D : va_G} {ct : Nat → ClassId} {as : List Nat} {ws : va_W × Prop} {sz : Nat} {av : List Value} (hE : gE_ok E) : FrameBlind (GPre E D ct as ws sz av) := fun a U g mk q => by
  obtain ⟨q0, q1, qP, qK, qD, qE, qX⟩ := q
  exact ⟨q0, q1, qP, va_K.moved (u := U) (U := U.calling g mk a) (Vm.Alike.refl U.vm) qK, qD, hE.2 U (U.calling g mk a) rfl qE, qX⟩
theorem g_blind0 {av : List Value} : FrameBlind (va_Pc av (fun _ => True)) := fun _ _ _ _ q => q
section GW
variable {p : Program} {l : Launch} {e : Env} {R : Room} {s : State} {m : MethodId} {args : Array Value} {below : List Frame} {meth : Method} {c : Code} {H : Heap} {locs : List Loc} {cells slots : Nat} {Q : State → Prop}
variable {cc bytes : ByteArray} {pc nL maxL idx mc ms sz b : Nat} {ls : Array Slot} {rest av st0 : List Value} {lv : List (Nat × Value)} {D : va_G} {ct : Nat → ClassId} {A : Nat → Prop} {as as0 as1 : List Nat} {H0 : Heap} {ws ws1 : va_W × Prop} {own C : String} {y : MethodName} {ret : Option FieldType} {rm : Room} {E : State → Prop}
theorem lv_topE {x y : Int32} (h : y = x) (k : W p l e R s m args below meth c H locs cells slots Q (F0 m pc ls (.int y :: rest))) : W p l e R s m args below meth c H locs cells slots Q (F0 m pc ls (.int x :: rest)) := h ▸ k
theorem lv_topEl {x y : Int64} (h : y = x) (k : W p l e R s m args below meth c H locs cells slots Q (F0 m pc ls (.long y :: rest))) : W p l e R s m args below meth c H locs cells slots Q (F0 m pc ls (.long x :: rest)) := h ▸ k
theorem lv_tabE {dflt lo hi : Int} {offs : Array Int} {len : Nat} {x q : Int32} {off : Int} {tgt : Nat} (hexec : p.tables.exec = Jvm.exec) (hb : c.code = cc) (hdg : decode cc pc = .ok (.tableswitch dflt lo hi offs, len)) (hx : x = q) (h1 : ¬ q.toInt < lo) (h2 : ¬ hi < q.toInt) (ho : offs[(q.toInt - lo).toNat]? = some off) (ht : (pc : Int) + off = (tgt : Int))
    (k : W p l e R s m args below meth c H locs cells slots Q (F0 m tgt ls rest)) : W p l e R s m args below meth c H locs cells slots Q (F0 m pc ls (.int x :: rest)) := by
  subst hx
  exact lv_tableIn hexec hb hdg h1 h2 ho ht k
/-- the start of a method over a world -/
theorem g_met {Qc : Array Value → State → Outcome → State → Prop} {free : Addr → Prop} (hy : plainName y.cls = true) (hn : (lg_sl av).length ≤ maxL)
    (body : ∀ (p : Program) (e : Env) (s : State) (m : MethodId) (args : Array Value) (below : List Frame) (meth : Method) (c : Code) (ls : Array Slot), CallFix p m c cc maxL s args lw_all y.cls → meth.sig.returnType = ret → meth.locks = false → va_K D clA (tysG ct) s → GH D (gA as sz) as s.heap ws s.heap [] → E s → s.heap.size = sz → lv_has ls maxL (lv_args 0 av) →
      W p l e rm s m args below meth c s.heap [] 0 0 (MQ below Qc args s mc ms free) (F0 m 0 ls [])) : Met l y (ws_ y cc maxL ret) rm (GPre E D ct as ws sz av) Qc mc ms free := by
  refine Met.ofW (cc := cc) (maxL := maxL) (ret := ret) hy rfl ?_
  intro p e s m args below meth c s₁ B hml hv
  obtain ⟨rfl, hsz, hP, hK, hD, hE, hX⟩ := hv
  have hts := atoms_spec (ws := ws_ y cc maxL ret) B.pre
  have hts : ∀ w ∈ lw_all, w.before _ s = true := fun w h => hts w (List.mem_cons_of_mem _ h)
  have hown := findClass_of_methodNamed B.named
  have hl := lv_entry av (n := maxL) hn
  rw [lg_entry_eq]
  exact body p e s m _ below meth c _ ⟨B.exec, B.bytes, hml, hown, hts⟩ B.returns B.notSynchronized hK ⟨hP, hD, va_S.rf, fun q h => Or.inl h, fun q h => Or.inr (by rw [← hsz]; exact h), hX⟩ hE hsz hl
/-- the start of a method that reads no world -/
theorem p_met {Qc : Array Value → State → Outcome → State → Prop} {free : Addr → Prop} (hy : plainName y.cls = true) (hn : (lg_sl av).length ≤ maxL)
    (body : ∀ (p : Program) (e : Env) (s : State) (m : MethodId) (args : Array Value) (below : List Frame) (meth : Method) (c : Code) (ls : Array Slot), CallFix p m c cc maxL s args lw_all y.cls → meth.sig.returnType = ret → meth.locks = false → lv_has ls maxL (lv_args 0 av) →
      W p l e rm s m args below meth c s.heap [] 0 0 (MQ below Qc args s mc ms free) (F0 m 0 ls [])) : Met l y (ws_ y cc maxL ret) rm (va_Pc av (fun _ => True)) Qc mc ms free := by
  refine Met.ofW (cc := cc) (maxL := maxL) (ret := ret) hy rfl ?_
  intro p e s m args below meth c s₁ B hml hv
  obtain ⟨rfl, -⟩ := hv
  have hts := atoms_spec (ws := ws_ y cc maxL ret) B.pre
  have hts : ∀ w ∈ lw_all, w.before _ s = true := fun w h => hts w (List.mem_cons_of_mem _ h)
  have hown := findClass_of_methodNamed B.named
  have hl := lv_entry av (n := maxL) hn
  rw [lg_entry_eq]
  exact body p e s m _ below meth c _ ⟨B.exec, B.bytes, hml, hown, hts⟩ B.returns B.notSynchronized hl
/-! ends of a method that changes nothing -/
theorem r_iret {v z : Int32} (hd : some v = some z) (S : CallFix p m c cc nL s args lw_all own) (hr : meth.sig.returnType = some .int) (hlk : meth.locks = false) (hdg : decode cc pc = .ok (.ireturn, 1)) : W p l e R s m args below meth c s.heap [] 0 0 (MQ below (vp_Si (fun r => r = z)) args s 0 0 (fun _ => False)) (F0 m pc ls [.int v]) := by
  cases hd
  exact W.iret S.1 S.2.1 hr (fun t ht _ => ⟨v, rfl, rfl, ht⟩) (fun q h => by cases h) hdg hlk
theorem r_zret {v z : Int32} (hn : narrow .boolean (.int v) = .int v) (hd : some v = some z) (S : CallFix p m c cc nL s args lw_all own) (hr : meth.sig.returnType = some .boolean) (hlk : meth.locks = false) (hdg : decode cc pc = .ok (.ireturn, 1)) : W p l e R s m args below meth c s.heap [] 0 0 (MQ below (vp_Si (fun r => r = z)) args s 0 0 (fun _ => False)) (F0 m pc ls [.int v]) := by
  cases hd
  exact W.zret S.1 S.2.1 hr hn (fun t ht _ => ⟨v, rfl, rfl, ht⟩) (fun q h => by cases h) hdg hlk
theorem r_lret {v z : Int64} (hd : some v = some z) (S : CallFix p m c cc nL s args lw_all own) (hr : meth.sig.returnType = some .long) (hlk : meth.locks = false) (hdg : decode cc pc = .ok (.lreturn, 1)) : W p l e R s m args below meth c s.heap [] 0 0 (MQ below (vp_Sl (fun r => r = z)) args s 0 0 (fun _ => False)) (F0 m pc ls [.long v]) := by
  cases hd
  exact W.lret S.1 S.2.1 hr (fun t ht _ => ⟨v, rfl, rfl, ht⟩) (fun q h => by cases h) hdg hlk
/-! ends of a method that leaves a new world -/
theorem g_iret {σ : Type} (Wf : σ → va_W × Prop) {st : σ} {z : σ × Int32} {v : Int32} (hd : some (st, v) = some z) (S : CallFix p m c cc nL s args lw_all own) (hr : meth.sig.returnType = some .int) (hlk : meth.locks = false) (hH : GH D (gA as0 sz) as s.heap (Wf st) H locs) (hdg : decode cc pc = .ok (.ireturn, 1)) : W p l e R s m args below meth c H locs cells slots (MQ below (GQi D as0 as (Wf z.1) sz z.2) args s cells slots (gA as0 sz)) (F0 m pc ls [.int v]) := by
  cases hd
  exact W.iret S.1 S.2.1 hr (fun t ht _ => ⟨⟨v, (), rfl, rfl, by rw [ht]; exact hH.1, hH.2.1, hH.2.2.2.2.2⟩, hH.2.2.1.F ht⟩) hH.2.2.1.2.2 hdg hlk
theorem g_zret {σ : Type} (Wf : σ → va_W × Prop) {st : σ} {z : σ × Int32} {v : Int32} (hn : narrow .boolean (.int v) = .int v) (hd : some (st, v) = some z) (S : CallFix p m c cc nL s args lw_all own) (hr : meth.sig.returnType = some .boolean) (hlk : meth.locks = false) (hH : GH D (gA as0 sz) as s.heap (Wf st) H locs) (hdg : decode cc pc = .ok (.ireturn, 1)) : W p l e R s m args below meth c H locs cells slots (MQ below (GQi D as0 as (Wf z.1) sz z.2) args s cells slots (gA as0 sz)) (F0 m pc ls [.int v]) := by
  cases hd
  exact W.zret S.1 S.2.1 hr hn (fun t ht _ => ⟨⟨v, (), rfl, rfl, by rw [ht]; exact hH.1, hH.2.1, hH.2.2.2.2.2⟩, hH.2.2.1.F ht⟩) hH.2.2.1.2.2 hdg hlk
theorem g_lret {σ : Type} (Wf : σ → va_W × Prop) {st : σ} {z : σ × Int64} {v : Int64} (hd : some (st, v) = some z) (S : CallFix p m c cc nL s args lw_all own) (hr : meth.sig.returnType = some .long) (hlk : meth.locks = false) (hH : GH D (gA as0 sz) as s.heap (Wf st) H locs) (hdg : decode cc pc = .ok (.lreturn, 1)) : W p l e R s m args below meth c H locs cells slots (MQ below (GQl D as0 as (Wf z.1) sz z.2) args s cells slots (gA as0 sz)) (F0 m pc ls [.long v]) := by
  cases hd
  exact W.lret S.1 S.2.1 hr (fun t ht _ => ⟨⟨v, (), rfl, rfl, by rw [ht]; exact hH.1, hH.2.1, hH.2.2.2.2.2⟩, hH.2.2.1.F ht⟩) hH.2.2.1.2.2 hdg hlk
theorem g_vret {σ : Type} (Wf : σ → va_W × Prop) {st z : σ} (hd : some st = some z) (S : CallFix p m c cc nL s args lw_all own) (hr : meth.sig.returnType = none) (hlk : meth.locks = false) (hH : GH D (gA as0 sz) as s.heap (Wf st) H locs) (hdg : decode cc pc = .ok (.return_, 1)) : W p l e R s m args below meth c H locs cells slots (MQ below (GQv D as0 as (Wf z) sz) args s cells slots (gA as0 sz)) (F0 m pc ls []) := by
  cases hd
  exact W.vret S.1 S.2.1 hr (fun t ht _ => ⟨⟨(), rfl, trivial, by rw [ht]; exact hH.1, hH.2.1, hH.2.2.2.2.2⟩, hH.2.2.1.F ht⟩) hH.2.2.1.2.2 hdg hlk
/-! calls -/
theorem g_pre (hE : gE_ok E) (hEs : E s) (hK : va_K D clA (tysG ct) s) (hH : GH D A as H0 ws H locs) : PreS s H (GPre E D ct as ws H.size av) av :=
  ⟨g_blind hE, fun U hU hW => ⟨rfl, by rw [hU], by rw [hU]; exact hH.1, va_K.moved hW.alike hK, hH.2.1, hE.1 _ _ hW hEs, hH.2.2.2.2.2⟩⟩
theorem g_sub (hS : va_S A H0 H locs) (h1 : ∀ q, q ∈ as → A q) (h2 : ∀ q, H0.size ≤ q → A q) : ∀ q, gA as H.size q → A q := fun q h => h.elim (h1 q) (fun z => h2 q (Nat.le_trans hS.1 z))
theorem g_new {H1 : Heap} {locs1 : List Loc} (hH : GH D A as H0 ws H locs) (hP : va_P D clA ws1.1 H1) (hD : va_D (fun q => q ∈ as1) ws1.1) (hX : ws1.2) (hS : va_S A H0 H1 locs1) (hn : ∀ q, q ∈ as1 → gA as H.size q) : GH D A as1 H0 ws1 H1 locs1 :=
  ⟨hP, hD, hS, fun q h => g_sub hH.2.2.1 hH.2.2.2.1 hH.2.2.2.2.1 q (hn q h), hH.2.2.2.2.1, hX⟩
/-- static, reads no world -/
theorem p_calli {v : Int32} (S : CallFix p m c cc nL s args lw_all own) (hl : lv_has ls nL lv) (hM : Met l y (ws_ y bytes maxL ret) rm (va_Pc av (fun _ => True)) (vp_Si (fun r => r = v)) 0 0 (fun _ => False))
    (hG : GoodIn lw_all (va_wsS own idx y (ws_ y bytes maxL ret))) (hrc : rm.cells = 0) (hrs : rm.slots = 0) (hd : y.cls ≠ "java/lang/invoke/MethodHandle" ∧ y.cls ≠ "java/lang/invoke/VarHandle" ∧ (parseMethodDescriptor y.desc).map (fun d => d.parameters.length) = some av.length) (hR : rm.frames + 1 ≤ R.frames ∧ 8 + (maxL + 11) + rm.locals ≤ R.locals)
    (hst : st0 = av.reverse ++ rest) (hsum : (rest.map fun v => v.category).sum ≤ 8) (hdg : decode cc pc = .ok (.invokestatic idx, 3)) (hf : cells ≤ R.cells ∧ slots ≤ R.slots)
    (k : W p l e R s m args below meth c H locs cells slots Q (F0 m (pc + 3) ls (.int v :: rest))) : W p l e R s m args below meth c H locs cells slots Q (F0 m pc ls st0) := by
  refine vp_callSi (W.runS (As := av) (rest := rest) S hM (va_cwS av.length S.2.2.2.2 hG rfl hrc hrs hd hR) ⟨g_blind0, fun _ _ _ => ⟨rfl, trivial⟩⟩ rfl rfl hl.1 hst (lv_room hsum) hdg hf) (fun r h => ?_)
  subst h
  exact k
/-- virtual, reads a world -/
theorem r_calli {v : Int32} (S : CallFix p m c cc nL s args lw_all own) (hl : lv_has ls nL lv) (hE : gE_ok E) (hEs : E s) (hK : va_K D clA (tysG ct) s) (hH : GH D A as H0 ws H locs) (hM : Met l y (ws_ y bytes maxL ret) rm (GPre E D ct as ws H.size (.ref b :: av)) (vp_Si (fun r => r = v)) 0 0 (fun _ => False))
    (hG : GoodIn lw_all (wsV own idx C y (ws_ y bytes maxL ret))) (hrc : rm.cells = 0) (hrs : rm.slots = 0) (hd : y.cls = C ∧ y.cls ≠ "java/lang/invoke/MethodHandle" ∧ y.cls ≠ "java/lang/invoke/VarHandle" ∧ (parseMethodDescriptor y.desc).map (fun d => d.parameters.length) = some av.length) (hR : rm.frames + 1 ≤ R.frames ∧ 8 + (maxL + 11) + rm.locals ≤ R.locals)
    (hb : ∃ cellB : Cell, H[b]? = some cellB ∧ cellB.vm.isStatics = false ∧ s.vm.findClass C = some cellB.cls)
    (hst : st0 = av.reverse ++ .ref b :: rest) (hsum : (rest.map fun v => v.category).sum ≤ 8) (hdg : decode cc pc = .ok (.invokevirtual idx, 3)) (hf : cells ≤ R.cells ∧ slots ≤ R.slots)
    (k : W p l e R s m args below meth c H locs cells slots Q (F0 m (pc + 3) ls (.int v :: rest))) : W p l e R s m args below meth c H locs cells slots Q (F0 m pc ls st0) := by
  have hp := g_pre (av := .ref b :: av) hE hEs hK hH
  refine vp_callSi (W.runV (As := av) (rest := rest) S hM (cwV av.length S.2.2.2.2 hG rfl hrc hrs hd hR) ⟨hp.1, hb, hp.2⟩ rfl rfl hl.1 hst (lv_room hsum) hdg hf) (fun r h => ?_)
  subst h
  exact k
/-- virtual, reads a world, gives a long -/
theorem r_calll {v : Int64} (S : CallFix p m c cc nL s args lw_all own) (hl : lv_has ls nL lv) (hE : gE_ok E) (hEs : E s) (hK : va_K D clA (tysG ct) s) (hH : GH D A as H0 ws H locs) (hM : Met l y (ws_ y bytes maxL ret) rm (GPre E D ct as ws H.size (.ref b :: av)) (vp_Sl (fun r => r = v)) 0 0 (fun _ => False))
    (hG : GoodIn lw_all (wsV own idx C y (ws_ y bytes maxL ret))) (hrc : rm.cells = 0) (hrs : rm.slots = 0) (hd : y.cls = C ∧ y.cls ≠ "java/lang/invoke/MethodHandle" ∧ y.cls ≠ "java/lang/invoke/VarHandle" ∧ (parseMethodDescriptor y.desc).map (fun d => d.parameters.length) = some av.length) (hR : rm.frames + 1 ≤ R.frames ∧ 8 + (maxL + 11) + rm.locals ≤ R.locals)
    (hb : ∃ cellB : Cell, H[b]? = some cellB ∧ cellB.vm.isStatics = false ∧ s.vm.findClass C = some cellB.cls)
    (hst : st0 = av.reverse ++ .ref b :: rest) (hsum : (rest.map fun v => v.category).sum ≤ 8) (hdg : decode cc pc = .ok (.invokevirtual idx, 3)) (hf : cells ≤ R.cells ∧ slots ≤ R.slots)
    (k : W p l e R s m args below meth c H locs cells slots Q (F0 m (pc + 3) ls (.long v :: rest))) : W p l e R s m args below meth c H locs cells slots Q (F0 m pc ls st0) := by
  have hp := g_pre (av := .ref b :: av) hE hEs hK hH
  refine vp_callSl (W.runV (As := av) (rest := rest) S hM (cwV av.length S.2.2.2.2 hG rfl hrc hrs hd hR) ⟨hp.1, hb, hp.2⟩ rfl rfl hl.1 hst (lv_room hsum) hdg hf) (fun r h => ?_)
  subst h
  exact k
/-- static, reads a world -/
theorem r_callsi {v : Int32} (S : CallFix p m c cc nL s args lw_all own) (hl : lv_has ls nL lv) (hE : gE_ok E) (hEs : E s) (hK : va_K D clA (tysG ct) s) (hH : GH D A as H0 ws H locs) (hM : Met l y (ws_ y bytes maxL ret) rm (GPre E D ct as ws H.size av) (vp_Si (fun r => r = v)) 0 0 (fun _ => False))
    (hG : GoodIn lw_all (va_wsS own idx y (ws_ y bytes maxL ret))) (hrc : rm.cells = 0) (hrs : rm.slots = 0) (hd : y.cls ≠ "java/lang/invoke/MethodHandle" ∧ y.cls ≠ "java/lang/invoke/VarHandle" ∧ (parseMethodDescriptor y.desc).map (fun d => d.parameters.length) = some av.length) (hR : rm.frames + 1 ≤ R.frames ∧ 8 + (maxL + 11) + rm.locals ≤ R.locals)
    (hst : st0 = av.reverse ++ rest) (hsum : (rest.map fun v => v.category).sum ≤ 8) (hdg : decode cc pc = .ok (.invokestatic idx, 3)) (hf : cells ≤ R.cells ∧ slots ≤ R.slots)
    (k : W p l e R s m args below meth c H locs cells slots Q (F0 m (pc + 3) ls (.int v :: rest))) : W p l e R s m args below meth c H locs cells slots Q (F0 m pc ls st0) := by
  refine vp_callSi (W.runS (As := av) (rest := rest) S hM (va_cwS av.length S.2.2.2.2 hG rfl hrc hrs hd hR) (g_pre hE hEs hK hH) rfl rfl hl.1 hst (lv_room hsum) hdg hf) (fun r h => ?_)
  subst h
  exact k
/-- virtual, leaves a new world: an int -/
theorem g_calli {v : Int32} (S : CallFix p m c cc nL s args lw_all own) (hl : lv_has ls nL lv) (hE : gE_ok E) (hEs : E s) (hK : va_K D clA (tysG ct) s) (hH : GH D A as H0 ws H locs) (hM : Met l y (ws_ y bytes maxL ret) rm (GPre E D ct as ws H.size (.ref b :: av)) (GQi D as as1 ws1 H.size v) mc ms (gA as H.size))
    (hG : GoodIn lw_all (wsV own idx C y (ws_ y bytes maxL ret))) (hrc : rm.cells = mc) (hrs : rm.slots = ms) (hd : y.cls = C ∧ y.cls ≠ "java/lang/invoke/MethodHandle" ∧ y.cls ≠ "java/lang/invoke/VarHandle" ∧ (parseMethodDescriptor y.desc).map (fun d => d.parameters.length) = some av.length) (hR : rm.frames + 1 ≤ R.frames ∧ 8 + (maxL + 11) + rm.locals ≤ R.locals)
    (hb : ∃ cellB : Cell, H[b]? = some cellB ∧ cellB.vm.isStatics = false ∧ s.vm.findClass C = some cellB.cls) (hn : ∀ q, q ∈ as1 → gA as H.size q)
    (hst : st0 = av.reverse ++ .ref b :: rest) (hsum : (rest.map fun v => v.category).sum ≤ 8) (hdg : decode cc pc = .ok (.invokevirtual idx, 3)) (hf : cells + mc ≤ R.cells ∧ slots + ms ≤ R.slots)
    (k : ∀ (H1 : Heap) (locs1 : List Loc), GH D A as1 H0 ws1 H1 locs1 → W p l e R s m args below meth c H1 locs1 (cells + mc) (slots + ms) Q (F0 m (pc + 3) ls (.int v :: rest))) : W p l e R s m args below meth c H locs cells slots Q (F0 m pc ls st0) := by
  have hp := g_pre (av := .ref b :: av) hE hEs hK hH
  have hsub := g_sub hH.2.2.1 hH.2.2.2.1 hH.2.2.2.2.1
  refine va_calli (va_runV (As := av) (rest := rest) S hM (cwV av.length S.2.2.2.2 hG rfl hrc hrs hd hR) ⟨hp.1, hb, hp.2⟩ rfl rfl hl.1 hst (lv_room hsum) hdg hf) hH.2.2.1 (fun q _ h => hsub q h) hsub (fun r u t H1 locs1 ht hvm hr hB hz hk hS => ?_)
  subst hr
  obtain ⟨hP1, hD1, hX1⟩ := hB
  rw [ht] at hP1
  exact k H1 locs1 (g_new hH hP1 hD1 hX1 hS hn)
theorem g_calll {v : Int64} (S : CallFix p m c cc nL s args lw_all own) (hl : lv_has ls nL lv) (hE : gE_ok E) (hEs : E s) (hK : va_K D clA (tysG ct) s) (hH : GH D A as H0 ws H locs) (hM : Met l y (ws_ y bytes maxL ret) rm (GPre E D ct as ws H.size (.ref b :: av)) (GQl D as as1 ws1 H.size v) mc ms (gA as H.size))
    (hG : GoodIn lw_all (wsV own idx C y (ws_ y bytes maxL ret))) (hrc : rm.cells = mc) (hrs : rm.slots = ms) (hd : y.cls = C ∧ y.cls ≠ "java/lang/invoke/MethodHandle" ∧ y.cls ≠ "java/lang/invoke/VarHandle" ∧ (parseMethodDescriptor y.desc).map (fun d => d.parameters.length) = some av.length) (hR : rm.frames + 1 ≤ R.frames ∧ 8 + (maxL + 11) + rm.locals ≤ R.locals)
    (hb : ∃ cellB : Cell, H[b]? = some cellB ∧ cellB.vm.isStatics = false ∧ s.vm.findClass C = some cellB.cls) (hn : ∀ q, q ∈ as1 → gA as H.size q)
    (hst : st0 = av.reverse ++ .ref b :: rest) (hsum : (rest.map fun v => v.category).sum ≤ 8) (hdg : decode cc pc = .ok (.invokevirtual idx, 3)) (hf : cells + mc ≤ R.cells ∧ slots + ms ≤ R.slots)
    (k : ∀ (H1 : Heap) (locs1 : List Loc), GH D A as1 H0 ws1 H1 locs1 → W p l e R s m args below meth c H1 locs1 (cells + mc) (slots + ms) Q (F0 m (pc + 3) ls (.long v :: rest))) : W p l e R s m args below meth c H locs cells slots Q (F0 m pc ls st0) := by
  have hp := g_pre (av := .ref b :: av) hE hEs hK hH
  have hsub := g_sub hH.2.2.1 hH.2.2.2.1 hH.2.2.2.2.1
  refine va_calll (va_runV (As := av) (rest := rest) S hM (cwV av.length S.2.2.2.2 hG rfl hrc hrs hd hR) ⟨hp.1, hb, hp.2⟩ rfl rfl hl.1 hst (lv_room hsum) hdg hf) hH.2.2.1 (fun q _ h => hsub q h) hsub (fun r u t H1 locs1 ht hvm hr hB hz hk hS => ?_)
  subst hr
  obtain ⟨hP1, hD1, hX1⟩ := hB
  rw [ht] at hP1
  exact k H1 locs1 (g_new hH hP1 hD1 hX1 hS hn)
theorem g_callv (S : CallFix p m c cc nL s args lw_all own) (hl : lv_has ls nL lv) (hE : gE_ok E) (hEs : E s) (hK : va_K D clA (tysG ct) s) (hH : GH D A as H0 ws H locs) (hM : Met l y (ws_ y bytes maxL ret) rm (GPre E D ct as ws H.size (.ref b :: av)) (GQv D as as1 ws1 H.size) mc ms (gA as H.size))
    (hG : GoodIn lw_all (wsV own idx C y (ws_ y bytes maxL ret))) (hrc : rm.cells = mc) (hrs : rm.slots = ms) (hd : y.cls = C ∧ y.cls ≠ "java/lang/invoke/MethodHandle" ∧ y.cls ≠ "java/lang/invoke/VarHandle" ∧ (parseMethodDescriptor y.desc).map (fun d => d.parameters.length) = some av.length) (hR : rm.frames + 1 ≤ R.frames ∧ 8 + (maxL + 11) + rm.locals ≤ R.locals)
    (hb : ∃ cellB : Cell, H[b]? = some cellB ∧ cellB.vm.isStatics = false ∧ s.vm.findClass C = some cellB.cls) (hn : ∀ q, q ∈ as1 → gA as H.size q)
    (hst : st0 = av.reverse ++ .ref b :: rest) (hsum : (rest.map fun v => v.category).sum ≤ 8) (hdg : decode cc pc = .ok (.invokevirtual idx, 3)) (hf : cells + mc ≤ R.cells ∧ slots + ms ≤ R.slots)
    (k : ∀ (H1 : Heap) (locs1 : List Loc), GH D A as1 H0 ws1 H1 locs1 → W p l e R s m args below meth c H1 locs1 (cells + mc) (slots + ms) Q (F0 m (pc + 3) ls rest)) : W p l e R s m args below meth c H locs cells slots Q (F0 m pc ls st0) := by
  have hp := g_pre (av := .ref b :: av) hE hEs hK hH
  have hsub := g_sub hH.2.2.1 hH.2.2.2.1 hH.2.2.2.2.1
  refine va_callv (va_runV (As := av) (rest := rest) S hM (cwV av.length S.2.2.2.2 hG rfl hrc hrs hd hR) ⟨hp.1, hb, hp.2⟩ rfl rfl hl.1 hst (lv_room hsum) hdg hf) hH.2.2.1 (fun q _ h => hsub q h) hsub (fun u t H1 locs1 ht hvm hr hB hz hk hS => ?_)
  obtain ⟨hP1, hD1, hX1⟩ := hB
  rw [ht] at hP1
  exact k H1 locs1 (g_new hH hP1 hD1 hX1 hS hn)
/-- static, leaves a new world, gives nothing back -/
theorem g_callsv (S : CallFix p m c cc nL s args lw_all own) (hl : lv_has ls nL lv) (hE : gE_ok E) (hEs : E s) (hK : va_K D clA (tysG ct) s) (hH : GH D A as H0 ws H locs) (hM : Met l y (ws_ y bytes maxL ret) rm (GPre E D ct as ws H.size av) (GQv D as as1 ws1 H.size) mc ms (gA as H.size))
    (hG : GoodIn lw_all (va_wsS own idx y (ws_ y bytes maxL ret))) (hrc : rm.cells = mc) (hrs : rm.slots = ms) (hd : y.cls ≠ "java/lang/invoke/MethodHandle" ∧ y.cls ≠ "java/lang/invoke/VarHandle" ∧ (parseMethodDescriptor y.desc).map (fun d => d.parameters.length) = some av.length) (hR : rm.frames + 1 ≤ R.frames ∧ 8 + (maxL + 11) + rm.locals ≤ R.locals)
    (hn : ∀ q, q ∈ as1 → gA as H.size q)
    (hst : st0 = av.reverse ++ rest) (hsum : (rest.map fun v => v.category).sum ≤ 8) (hdg : decode cc pc = .ok (.invokestatic idx, 3)) (hf : cells + mc ≤ R.cells ∧ slots + ms ≤ R.slots)
    (k : ∀ (H1 : Heap) (locs1 : List Loc), GH D A as1 H0 ws1 H1 locs1 → W p l e R s m args below meth c H1 locs1 (cells + mc) (slots + ms) Q (F0 m (pc + 3) ls rest)) : W p l e R s m args below meth c H locs cells slots Q (F0 m pc ls st0) := by
  have hsub := g_sub hH.2.2.1 hH.2.2.2.1 hH.2.2.2.2.1
  refine va_callv (va_runS (As := av) (rest := rest) S hM (va_cwS av.length S.2.2.2.2 hG rfl hrc hrs hd hR) (g_pre hE hEs hK hH) rfl rfl hl.1 hst (lv_room hsum) hdg hf) hH.2.2.1 (fun q _ h => hsub q h) hsub (fun u t H1 locs1 ht hvm hr hB hz hk hS => ?_)
  obtain ⟨hP1, hD1, hX1⟩ := hB
  rw [ht] at hP1
  exact k H1 locs1 (g_new hH hP1 hD1 hX1 hS hn)
end GW
