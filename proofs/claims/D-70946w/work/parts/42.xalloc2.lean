/-! methods that lay anew: the addresses behind them are others -/
set_option maxRecDepth 100000
abbrev XB : Type := (Nat → Option Nat) × (Nat → Option Nat) × (Nat → Option (Nat × Nat × Nat))
def GBx (D : va_G) (ct : Nat → ClassId) (a : XA) (sz : Nat) (st : XS) : XB → State → Prop := fun b t => va_P D clA (WX ct (a.1, b) none st).1 t.heap ∧ va_D (fun q => q ∈ xAs (a.1, b)) (WX ct (a.1, b) none st).1 ∧ (WX ct (a.1, b) none st).2 ∧ ∀ q, q ∈ xAs (a.1, b) → gA (xAs a) sz q
def GQx (D : va_G) (ct : Nat → ClassId) (a : XA) (st : XS) (sz : Nat) (v : Int32) : Array Value → State → Outcome → State → Prop := va_Qi (S := XB) (fun r _ => r = v) (GBx D ct a sz st) (gA (xAs a) sz)
/-- a cell that is new, behind the world -/
def GN (D : va_G) (A : Nat → Prop) (as : List Nat) (H0 : Heap) (ws : va_W × Prop) (new : va_W) (H : Heap) (locs : List Loc) : Prop :=
  va_P D clA (ws.1 ++ new) H ∧ va_D A (ws.1 ++ new) ∧ va_S A H0 H locs ∧ (∀ q, q ∈ as → A q) ∧ (∀ q, H0.size ≤ q → A q) ∧ ws.2
theorem asg_self (U : Vm) (c : ClassId) : U.assignable c c = true := by
  show Vm.assignableAux U (255 + 1) c c = true
  rw [Vm.assignableAux, beq_self_eq_true, Bool.true_or]
section XAL
variable {p : Program} {l : Launch} {e : Env} {R : Room} {s : State} {m : MethodId} {args : Array Value} {below : List Frame} {meth : Method} {c : Code} {H : Heap} {locs : List Loc} {cells slots : Nat} {Q : State → Prop}
variable {cc bytes : ByteArray} {pc nL maxL idx mc ms sz : Nat} {ls : Array Slot} {rest av st0 : List Value} {lv : List (Nat × Value)} {D : va_G} {ct : Nat → ClassId} {A : Nat → Prop} {H0 : Heap} {a : XA} {ρ : Option Nat} {st st1 : XS} {i x v n : Int32} {j N : Nat} {own : String} {ws : va_W}
theorem gq_iret {b : XB} {z : XS × Int32} (hd : some (st, v) = some z) (S : CallFix p m c cc nL s args lw_all own) (hr : meth.sig.returnType = some .int) (hlk : meth.locks = false) (hH : GH D (gA (xAs a) sz) (xAs (a.1, b)) s.heap (WX ct (a.1, b) none st) H locs) (hdg : decode cc pc = .ok (.ireturn, 1)) : W p l e R s m args below meth c H locs cells slots (MQ below (GQx D ct a z.1 sz z.2) args s cells slots (gA (xAs a) sz)) (F0 m pc ls [.int v]) := by
  cases hd
  exact W.iret S.1 S.2.1 hr (fun t ht _ => ⟨⟨v, b, rfl, rfl, by rw [ht]; exact hH.1, hH.2.1, hH.2.2.2.2.2, hH.2.2.2.1⟩, hH.2.2.1.F ht⟩) hH.2.2.1.2.2 hdg hlk
/-- an array into an array of arrays -/
theorem g_aastA (hexec : p.tables.exec = Jvm.exec) (hb : c.code = cc) (hK : va_K D clA (tysG ct) s) (hP : va_P D clA ws H) (hD : va_D A ws) (hS : va_S A H0 H locs) (q0 t0 qk : Nat) {aa vv : Nat} {cA cB : ClassId} {t : FieldType} {nn : Nat} {f : Nat → Option Nat} {e0 : vp_A} (ha : ws[q0]? = some (aa, .inl (cA, nn, .inr (.inr (.inr (.inr f)))))) (ht : (tysG ct)[t0]? = some (cA, .array t)) (hv : ws[qk]? = some (vv, .inl (cB, e0))) (hao : gAO t s) (hB : s.vm.findClass (FieldType.array t).toString = some cB) (hin : vp_in i nn) (hdg : decode cc pc = .ok (.aastore, 1))
    (kk : ∀ (H1 : Heap) (locs1 : List Loc), va_P D clA (ws.set q0 (aa, .inl (cA, nn, .inr (.inr (.inr (.inr (va_up f i.toNatClampNeg (some vv)))))))) H1 → va_D A (ws.set q0 (aa, .inl (cA, nn, .inr (.inr (.inr (.inr (va_up f i.toNatClampNeg (some vv)))))))) → va_S A H0 H1 locs1 → W p l e R s m args below meth c H1 locs1 cells slots Q (F0 m (pc + 1) ls rest)) : W p l e R s m args below meth c H locs cells slots Q (F0 m pc ls (.ref vv :: .int i :: .ref aa :: rest)) := by
  have hlt : i.toNatClampNeg < nn := Nat.not_le.mp fun q => hin (Or.inr q)
  have h0 : ¬ i < 0 := fun q => hin (Or.inl q)
  have g1 : H[vv]? = some (vp_cell cB e0) := hP qk _ hv
  obtain ⟨g2, g3⟩ : (vp_cell cB e0).cls = cB ∧ (vp_cell cB e0).vm = .none := by
    obtain ⟨N0, e1⟩ := e0
    rcases e1 with e1 | e1 | e1 | e1 | e1 <;> exact ⟨rfl, rfl⟩
  have hra : s.vm.findClass ("[" ++ (FieldType.array t).toString) = some cA := (hK.2 t0 _ ht).2
  obtain ⟨comp, c9, k9, k1, k2, k3, k4⟩ := hao
  cases k4.symm.trans hra
  cases k1.symm.trans hB
  obtain ⟨kC, hkC, -⟩ := Vm.findClass_spec hB
  refine W.aast hexec hb (hP q0 _ ha) (fun q h => by cases h) (fun h => by cases h) k2 k3 rfl hkC ⟨h0, by show _ < (arrV _ _ _).slots.size; rw [arrV_size]; exact hlt⟩ g1 (fun q h => by rw [g3] at h; cases h) (by rw [g2]; exact hkC) (by rw [g2]; exact asg_self _ _) rfl rfl hdg fun H1 e z oq => ?_
  refine kk H1 _ (hP.set hD ha ?_ oq) (hD.set ha) (hS.put z oq (hD.2 q0 _ ha))
  show H1[aa]? = some (vp_cell _ _)
  rw [e]
  rw [vp_cell_q, vp_cell_q, arrV_store]
  congr 2
  funext q
  by_cases hq : q = i.toNatClampNeg
  · subst hq
    simp [updV, va_up, va_rf]
  · simp [updV, va_up, hq]
/-- nothing into an array of references, of whatever sort -/
theorem g_aastN (hexec : p.tables.exec = Jvm.exec) (hb : c.code = cc) (hK : va_K D clA (tysG ct) s) (hP : va_P D clA ws H) (hD : va_D A ws) (hS : va_S A H0 H locs) (q0 t0 : Nat) {aa : Nat} {cA : ClassId} {t : FieldType} {nn : Nat} {f : Nat → Option Nat} (ha : ws[q0]? = some (aa, .inl (cA, nn, .inr (.inr (.inr (.inr f)))))) (ht : (tysG ct)[t0]? = some (cA, t)) (href : t.isReference = true) (hin : vp_in i nn) (hdg : decode cc pc = .ok (.aastore, 1))
    (kk : ∀ (H1 : Heap) (locs1 : List Loc), va_P D clA (ws.set q0 (aa, .inl (cA, nn, .inr (.inr (.inr (.inr (va_up f i.toNatClampNeg none))))))) H1 → va_D A (ws.set q0 (aa, .inl (cA, nn, .inr (.inr (.inr (.inr (va_up f i.toNatClampNeg none))))))) → va_S A H0 H1 locs1 → W p l e R s m args below meth c H1 locs1 cells slots Q (F0 m (pc + 1) ls rest)) : W p l e R s m args below meth c H locs cells slots Q (F0 m pc ls (.null :: .int i :: .ref aa :: rest)) := by
  have hlt : i.toNatClampNeg < nn := Nat.not_le.mp fun q => hin (Or.inr q)
  have h0 : ¬ i < 0 := fun q => hin (Or.inl q)
  obtain ⟨-, kA, h1, comp, h2⟩ := (hK.2 t0 _ ht).1 nn (fun j => va_rf (f j))
  intro T hT X
  have hcell : T.heap[aa]? = some (vp_cell cA (nn, .inr (.inr (.inr (.inr f))))) := by rw [hT]; exact hP q0 _ ha
  obtain ⟨X', st⟩ := X.aastoreNullIn (j := i) (rest := rest) (g := F0 m pc ls (.null :: .int i :: .ref aa :: rest)) hexec hcell (fun q h => by cases h) (fun h => by cases h) h1 h2 href ⟨h0, by show _ < (arrV _ _ _).slots.size; rw [arrV_size]; exact hlt⟩ rfl rfl (by rw [hb]; exact hdg)
  have hl : aa < T.heap.size := (Array.getElem?_eq_some_iff.mp hcell).1
  have e : (T.setCell aa ((vp_cell cA (nn, .inr (.inr (.inr (.inr f))))).setSlot i.toNatClampNeg .null)).heap[aa]? = _ := heapAt_setCell_self _ hl
  have oq : ∀ q, q ≠ aa → (T.setCell aa ((vp_cell cA (nn, .inr (.inr (.inr (.inr f))))).setSlot i.toNatClampNeg .null)).heap[q]? = H[q]? := fun q hq => by rw [heapAt_setCell_ne _ (Ne.symm hq), hT]
  obtain ⟨t', a1, b1⟩ := kk _ _ (hP.set hD ha (by
    show (T.setCell aa ((vp_cell cA (nn, .inr (.inr (.inr (.inr f))))).setSlot i.toNatClampNeg .null)).heap[aa]? = some (vp_cell _ _)
    rw [e]
    rw [vp_cell_q, vp_cell_q, arrV_store]
    congr 2
    funext q
    by_cases hq : q = i.toNatClampNeg
    · subst hq
      simp [updV, va_up, va_rf]
    · simp [updV, va_up, hq]) oq) (hD.set ha) (hS.put (by rw [size_setCell, hT]) oq (hD.2 q0 _ ha)) (T.setCell aa ((vp_cell cA (nn, .inr (.inr (.inr (.inr f))))).setSlot i.toNatClampNeg .null)) rfl X'
  exact ⟨t', st t' a1, b1⟩
/-- a fresh array of ints or bytes -/
theorem gn_newa (t : FieldType) (t0 : Nat) {atype : ArrayType} (S : CallFix p m c cc nL s args lw_all own) (hat : newarray.typeOf atype = t) (harr : Cond.arrayClass (newarray.typeOf atype) ∈ lw_all) (hra : ∀ (U : State) (cA : ClassId), va_RA U cA t → U.vm.findClass ("[" ++ t.toString) = some cA) (hk : (tysG ct)[t0]? = some (ct t0, t)) (hdef : ∀ cA : ClassId, vp_cell cA (N, .inl (fun _ => 0)) = arrV cA N (fun _ => defaultValue t)) (hK : va_K D clA (tysG ct) s) (hH : GH D A (xAs a) H0 (WX ct a none st) H locs) (hn : ¬ n < 0) (hN : n.toNatClampNeg = N) (hbytes : N * componentBytes t ≤ 536870912) (hc : cells + 1 ≤ R.cells) (hs : slots + N ≤ R.slots) (hdg : decode cc pc = .ok (.newarray atype, 2))
    (k : ∀ (q : Nat) (H1 : Heap), GN D A (xAs a) H0 (WX ct a none st) [(q, .inl (ct t0, N, .inl (fun _ => 0)))] H1 locs → W p l e R s m args below meth c H1 locs (cells + 1) (slots + N) Q (F0 m (pc + 2) ls (.ref q :: rest))) : W p l e R s m args below meth c H locs cells slots Q (F0 m pc ls (.int n :: rest)) := by
  refine va_newa (a0 := (N, .inl (fun _ => 0))) S.1 S.2.1 (S.2.2.2.2 _ harr) hat hK hH.1 hH.D hH.2.2.1 hH.2.2.2.2.1 hdef hn hN hbytes hc hs hdg (fun q cA H1 hK1 hP hD hS => ?_)
  have e1 := hra _ _ (hK1.2 (tysG ct).length (cA, t) (by simp)).2
  have e2 := hra _ _ (hK.2 t0 (ct t0, t) hk).2
  have e3 : cA = ct t0 := Option.some.inj (e1.symm.trans e2)
  subst e3
  exact k q H1 ⟨hP, hD, hS, hH.2.2.2⟩
theorem gn_newI (S : CallFix p m c cc nL s args lw_all own) (harr : Cond.arrayClass (newarray.typeOf .int) ∈ lw_all) (hK : va_K D clA (tysG ct) s) (hH : GH D A (xAs a) H0 (WX ct a none st) H locs) (hn : ¬ n < 0) (hN : n.toNatClampNeg = N) (hbytes : N ≤ 100000) (hc : cells + 1 ≤ R.cells) (hs : slots + N ≤ R.slots) (hdg : decode cc pc = .ok (.newarray .int, 2))
    (k : ∀ (q : Nat) (H1 : Heap), GN D A (xAs a) H0 (WX ct a none st) [(q, .inl (ct 0, N, .inl (fun _ => 0)))] H1 locs → W p l e R s m args below meth c H1 locs (cells + 1) (slots + N) Q (F0 m (pc + 2) ls (.ref q :: rest))) : W p l e R s m args below meth c H locs cells slots Q (F0 m pc ls (.int n :: rest)) :=
  gn_newa .int 0 S rfl harr (fun _ _ h => h) rfl (fun cA => rfl) hK hH hn hN (by show N * 4 ≤ _; omega) hc hs hdg k
theorem gn_newB (S : CallFix p m c cc nL s args lw_all own) (harr : Cond.arrayClass (newarray.typeOf .byte) ∈ lw_all) (hK : va_K D clA (tysG ct) s) (hH : GH D A (xAs a) H0 (WX ct a none st) H locs) (hn : ¬ n < 0) (hN : n.toNatClampNeg = N) (hbytes : N ≤ 100000) (hc : cells + 1 ≤ R.cells) (hs : slots + N ≤ R.slots) (hdg : decode cc pc = .ok (.newarray .byte, 2))
    (k : ∀ (q : Nat) (H1 : Heap), GN D A (xAs a) H0 (WX ct a none st) [(q, .inl (ct 2, N, .inl (fun _ => 0)))] H1 locs → W p l e R s m args below meth c H1 locs (cells + 1) (slots + N) Q (F0 m (pc + 2) ls (.ref q :: rest))) : W p l e R s m args below meth c H locs cells slots Q (F0 m pc ls (.int n :: rest)) :=
  gn_newa .byte 2 S rfl harr (fun _ _ h => h) rfl (fun cA => rfl) hK hH hn hN (by show N * 1 ≤ _; omega) hc hs hdg k
/-- the fresh array into the rows -/
theorem xa_row {q : Nat} {f : Nat → Int32} (S : CallFix p m c cc nL s args lw_all own) (hE : gEX s) (hK : va_K D clA (tysG ct) s) (hH : GN D A (xAs a) H0 (WX ct a none st) [(q, .inl (ct 0, N, .inl f))] H locs) (hv : bs_ix 6 i = some j) (he : st1 = sxr st j (some (N, f))) (hdg : decode cc pc = .ok (.aastore, 1))
    (k : ∀ (b : XB) (H1 : Heap) (locs1 : List Loc), GH D A (xAs (a.1, b)) H0 (WX ct (a.1, b) none st1) H1 locs1 → W p l e R s m args below meth c H1 locs1 cells slots Q (F0 m (pc + 1) ls rest)) : W p l e R s m args below meth c H locs cells slots Q (F0 m pc ls (.ref q :: .int i :: .ref (ah a 2) :: rest)) := by
  obtain ⟨h1, h2⟩ := bs_ix_spec hv
  have hj := bs_ix_lt hv
  subst he
  obtain ⟨hP, hD, hS, hA, hA2, hX⟩ := hH
  have hlen : (WX ct a none st).1.length = (WX ct a none st).1.length + 0 := rfl
  refine g_aastA (t := .int) (cB := ct 0) S.1 S.2.1 hK hP hD hS 2 3 (WX ct a none st).1.length rfl rfl (List.getElem?_concat_length) hE.2.2.1 (hK.2 0 _ rfl).2 h1 hdg (fun H1 locs1 hP1 hD1 hS1 => ?_)
  rw [h2] at hP1 hD1
  obtain ⟨P1, P2, e1, e2, -, e4⟩ := wx_row ct a none st hj
  have hl2 : 2 < (WX ct a none st).1.length := by rw [e1, List.length_append]; omega
  rw [List.set_append_left _ _ hl2, e1, List.set_append_left _ _ (by omega)] at hP1 hD1
  obtain ⟨hP2, hD2⟩ := w_repl hP1 hD1
  have e5 := e4 none (some q) (some (N, f))
  have hp : rP ct (axr a j (some q)) (sxr st j (some (N, f))) j = [(q, .inl (ct 0, N, .inl f))] := by
    unfold rP
    rw [show ar (axr a j (some q)) j = some q from va_up_self _ _ _, show xr (sxr st j (some (N, f))) j = some (N, f) from va_up_self _ _ _]
    show [(q, Sum.inl (if j < 6 then ct 0 else ct 2, N, Sum.inl f))] = _
    rw [if_pos hj]
  rw [hp] at e5
  rw [← e5] at hP2 hD2
  exact k (axr a j (some q)).2 H1 locs1 ⟨hP2, D_as hD2, hS1, fun x hx => (as_r x hx).elim (hA x) (fun h => by cases h; exact hD.2 (WX ct a none st).1.length (q, _) (List.getElem?_concat_length)), hA2, xok_rr hX.1 j _ _ rfl, fun t h => by cases h⟩
theorem xa_text {q : Nat} {f : Nat → Int32} (S : CallFix p m c cc nL s args lw_all own) (hE : gEX s) (hK : va_K D clA (tysG ct) s) (hH : GN D A (xAs a) H0 (WX ct a none st) [(q, .inl (ct 2, N, .inl f))] H locs) (hv : bs_ix 4 i = some j) (he : st1 = sxr st (6 + j) (some (N, f))) (hdg : decode cc pc = .ok (.aastore, 1))
    (k : ∀ (b : XB) (H1 : Heap) (locs1 : List Loc), GH D A (xAs (a.1, b)) H0 (WX ct (a.1, b) none st1) H1 locs1 → W p l e R s m args below meth c H1 locs1 cells slots Q (F0 m (pc + 1) ls rest)) : W p l e R s m args below meth c H locs cells slots Q (F0 m pc ls (.ref q :: .int i :: .ref (ah a 3) :: rest)) := by
  obtain ⟨h1, h2⟩ := bs_ix_spec hv
  have hj := bs_ix_lt hv
  subst he
  obtain ⟨hP, hD, hS, hA, hA2, hX⟩ := hH
  refine g_aastA (t := .byte) (cB := ct 2) S.1 S.2.1 hK hP hD hS 3 4 (WX ct a none st).1.length rfl rfl (List.getElem?_concat_length) hE.2.2.2 (hK.2 2 _ rfl).2 h1 hdg (fun H1 locs1 hP1 hD1 hS1 => ?_)
  rw [h2] at hP1 hD1
  obtain ⟨P1, P2, e1, e2, -, e4⟩ := wx_text ct a none st hj
  have hl2 : 3 < (WX ct a none st).1.length := by rw [e1, List.length_append]; omega
  rw [List.set_append_left _ _ hl2, e1, List.set_append_left _ _ (by omega)] at hP1 hD1
  obtain ⟨hP2, hD2⟩ := w_repl hP1 hD1
  have e5 := e4 none (some q) (some (N, f))
  have hp : rP ct (axr a (6 + j) (some q)) (sxr st (6 + j) (some (N, f))) (6 + j) = [(q, .inl (ct 2, N, .inl f))] := by
    unfold rP
    rw [show ar (axr a (6 + j) (some q)) (6 + j) = some q from va_up_self _ _ _, show xr (sxr st (6 + j) (some (N, f))) (6 + j) = some (N, f) from va_up_self _ _ _]
    show [(q, Sum.inl (if 6 + j < 6 then ct 0 else ct 2, N, Sum.inl f))] = _
    rw [if_neg (by omega)]
  rw [hp] at e5
  rw [← e5] at hP2 hD2
  exact k (axr a (6 + j) (some q)).2 H1 locs1 ⟨hP2, D_as hD2, hS1, fun x hx => (as_r x hx).elim (hA x) (fun h => by cases h; exact hD.2 (WX ct a none st).1.length (q, _) (List.getElem?_concat_length)), hA2, xok_rr hX.1 (6 + j) _ _ rfl, fun t h => by cases h⟩
/-- nothing into the rows -/
theorem xa_rowN (S : CallFix p m c cc nL s args lw_all own) (hK : va_K D clA (tysG ct) s) (hH : GH D A (xAs a) H0 (WX ct a none st) H locs) (hv : bs_ix 6 i = some j) (he : st1 = sxr st j none) (hdg : decode cc pc = .ok (.aastore, 1))
    (k : ∀ (b : XB) (H1 : Heap) (locs1 : List Loc), GH D A (xAs (a.1, b)) H0 (WX ct (a.1, b) none st1) H1 locs1 → W p l e R s m args below meth c H1 locs1 cells slots Q (F0 m (pc + 1) ls rest)) : W p l e R s m args below meth c H locs cells slots Q (F0 m pc ls (.null :: .int i :: .ref (ah a 2) :: rest)) := by
  obtain ⟨h1, h2⟩ := bs_ix_spec hv
  have hj := bs_ix_lt hv
  subst he
  have hD := hH.D
  obtain ⟨hP, -, hS, hA, hA2, hX⟩ := hH
  refine g_aastN S.1 S.2.1 hK hP hD hS 2 3 rfl rfl rfl h1 hdg (fun H1 locs1 hP1 hD1 hS1 => ?_)
  rw [h2] at hP1 hD1
  obtain ⟨P1, P2, e1, e2, -, e4⟩ := wx_row ct a none st hj
  rw [e1, List.set_append_left _ _ (by omega)] at hP1 hD1
  obtain ⟨hP2, hD2⟩ := w_repl (new := []) (by rw [List.append_nil]; exact hP1) (by rw [List.append_nil]; exact hD1)
  have e5 := e4 none none none
  have hp : rP ct (axr a j none) (sxr st j none) j = [] := by
    unfold rP
    rw [show ar (axr a j none) j = none from va_up_self _ _ _]
  rw [hp] at e5
  rw [← e5] at hP2 hD2
  exact k (axr a j none).2 H1 locs1 ⟨hP2, D_as hD2, hS1, fun x hx => (as_r x hx).elim (hA x) (fun h => by cases h), hA2, xok_rr hX.1 j _ _ rfl, fun t h => by cases h⟩
theorem xa_keptN (S : CallFix p m c cc nL s args lw_all own) (hK : va_K D clA (tysG ct) s) (hH : GH D A (xAs a) H0 (WX ct a none st) H locs) (hv : bs_ix 3 i = some j) (he : st1 = sxk st j none) (hdg : decode cc pc = .ok (.aastore, 1))
    (k : ∀ (b : XB) (H1 : Heap) (locs1 : List Loc), GH D A (xAs (a.1, b)) H0 (WX ct (a.1, b) none st1) H1 locs1 → W p l e R s m args below meth c H1 locs1 cells slots Q (F0 m (pc + 1) ls rest)) : W p l e R s m args below meth c H locs cells slots Q (F0 m pc ls (.null :: .int i :: .ref (ah a 13) :: rest)) := by
  obtain ⟨h1, h2⟩ := bs_ix_spec hv
  have hj := bs_ix_lt hv
  subst he
  have hD := hH.D
  obtain ⟨hP, -, hS, hA, hA2, hX⟩ := hH
  refine g_aastN S.1 S.2.1 hK hP hD hS 13 6 rfl rfl rfl h1 hdg (fun H1 locs1 hP1 hD1 hS1 => ?_)
  rw [h2] at hP1 hD1
  obtain ⟨P1, P2, e1, e2, -, e4⟩ := wx_kept ct a none st hj
  rw [e1, List.set_append_left _ _ (by omega)] at hP1 hD1
  obtain ⟨hP2, hD2⟩ := w_repl (new := []) (by rw [List.append_nil]; exact hP1) (by rw [List.append_nil]; exact hD1)
  have e5 := e4 none none none
  have hp : kP ct (axk a j none) (sxk st j none) j = [] := by
    unfold kP
    rw [show ak (axk a j none) j = none from va_up_self _ _ _]
  rw [hp, Option.map_none] at e5
  rw [← e5] at hP2 hD2
  exact k (axk a j none).2 H1 locs1 ⟨hP2, D_as hD2, hS1, fun x hx => (as_k x hx).elim (hA x) (fun h => by obtain ⟨q, h, -⟩ := h; cases h), hA2, xok_kk hX.1 j _ _ rfl, fun t h => by cases h⟩
theorem gq_new {b : XB} {H1 : Heap} {locs1 : List Loc} (hH : GH D A (xAs a) H0 (WX ct a none st) H locs) (hP : va_P D clA (WX ct (a.1, b) none st1).1 H1) (hD : va_D (fun q => q ∈ xAs (a.1, b)) (WX ct (a.1, b) none st1).1) (hX : (WX ct (a.1, b) none st1).2) (hS : va_S A H0 H1 locs1) (hn : ∀ q, q ∈ xAs (a.1, b) → gA (xAs a) H.size q) : GH D A (xAs (a.1, b)) H0 (WX ct (a.1, b) none st1) H1 locs1 :=
  ⟨hP, hD, hS, fun q h => g_sub hH.2.2.1 hH.2.2.2.1 hH.2.2.2.2.1 q (hn q h), hH.2.2.2.2.1, hX⟩
/-- the call of a method that lays anew: plain, by GPreX; and one that catches -/
theorem gq_calli {C : String} {y : MethodName} {ret : Option FieldType} {rm : Room} {bb : Nat} (S : CallFix p m c cc nL s args lw_all own) (hl : lv_has ls nL lv) (hE : gEX s) (hK : va_K D clA (tysG ct) s) (hH : GH D A (xAs a) H0 (WX ct a none st) H locs) (hM : Met l y (ws_ y bytes maxL ret) rm (GPre gEX D ct (xAs a) (WX ct a none st) H.size (.ref bb :: av)) (GQx D ct a st1 H.size v) mc ms (gA (xAs a) H.size))
    (hG : GoodIn lw_all (wsV own idx C y (ws_ y bytes maxL ret))) (hrc : rm.cells = mc) (hrs : rm.slots = ms) (hd : y.cls = C ∧ y.cls ≠ "java/lang/invoke/MethodHandle" ∧ y.cls ≠ "java/lang/invoke/VarHandle" ∧ (parseMethodDescriptor y.desc).map (fun d => d.parameters.length) = some av.length) (hR : rm.frames + 1 ≤ R.frames ∧ 8 + (maxL + 11) + rm.locals ≤ R.locals)
    (hb : ∃ cellB : Cell, H[bb]? = some cellB ∧ cellB.vm.isStatics = false ∧ s.vm.findClass C = some cellB.cls)
    (hst : st0 = av.reverse ++ .ref bb :: rest) (hsum : (rest.map fun v => v.category).sum ≤ 8) (hdg : decode cc pc = .ok (.invokevirtual idx, 3)) (hf : cells + mc ≤ R.cells ∧ slots + ms ≤ R.slots)
    (k : ∀ (b : XB) (H1 : Heap) (locs1 : List Loc), GH D A (xAs (a.1, b)) H0 (WX ct (a.1, b) none st1) H1 locs1 → W p l e R s m args below meth c H1 locs1 (cells + mc) (slots + ms) Q (F0 m (pc + 3) ls (.int v :: rest))) : W p l e R s m args below meth c H locs cells slots Q (F0 m pc ls st0) := by
  have hp := g_pre (av := .ref bb :: av) gEX_ok hE hK hH
  have hsub := g_sub hH.2.2.1 hH.2.2.2.1 hH.2.2.2.2.1
  refine va_calli (va_runV (As := av) (rest := rest) S hM (cwV av.length S.2.2.2.2 hG rfl hrc hrs hd hR) ⟨hp.1, hb, hp.2⟩ rfl rfl hl.1 hst (lv_room hsum) hdg hf) hH.2.2.1 (fun q _ h => hsub q h) hsub (fun r u t H1 locs1 ht hvm hr hB hz hk hS => ?_)
  subst hr
  obtain ⟨hP1, hD1, hX1, hn⟩ := hB
  rw [ht] at hP1
  exact k u H1 locs1 (gq_new hH hP1 hD1 hX1 hS hn)
theorem gqx_calli {C : String} {y : MethodName} {ret : Option FieldType} {rm : Room} {bb : Nat} {hh : List (Nat × Nat × Nat × Nat)} (S : CallFix p m c cc nL s args lw_all own) (hl : lv_has ls nL lv) (hE : gEX s) (hK : va_K D clA (tysG ct) s) (hH : GH D A (xAs a) H0 (WX ct a none st) H locs) (hZ : vx_Zq Bundle.tN "UNASSIGNED_STACK" Bundle.steD (gA (xAs a) H.size) s H ∧ vx_Zq Bundle.tN "SUPPRESSED_SENTINEL" Bundle.listD (gA (xAs a) H.size) s H) (hM : vx_Met l y (wsW_ y bytes maxL ret hh) rm (GPreX D ct (xAs a) (WX ct a none st) H.size (.ref bb :: av)) (GQx D ct a st1 H.size v) XNo mc ms (gA (xAs a) H.size))
    (hG : GoodIn lw_all (wsV own idx C y (wsW_ y bytes maxL ret hh))) (hrc : rm.cells = mc) (hrs : rm.slots = ms) (hd : y.cls = C ∧ y.cls ≠ "java/lang/invoke/MethodHandle" ∧ y.cls ≠ "java/lang/invoke/VarHandle" ∧ (parseMethodDescriptor y.desc).map (fun d => d.parameters.length) = some av.length) (hR : rm.frames + 1 ≤ R.frames ∧ 8 + (maxL + 11) + rm.locals ≤ R.locals)
    (hb : ∃ cellB : Cell, H[bb]? = some cellB ∧ cellB.vm.isStatics = false ∧ s.vm.findClass C = some cellB.cls)
    (hst : st0 = av.reverse ++ .ref bb :: rest) (hsum : (rest.map fun v => v.category).sum ≤ 8) (hdg : decode cc pc = .ok (.invokevirtual idx, 3)) (hf : cells + mc ≤ R.cells ∧ slots + ms ≤ R.slots)
    (k : ∀ (b : XB) (H1 : Heap) (locs1 : List Loc), GH D A (xAs (a.1, b)) H0 (WX ct (a.1, b) none st1) H1 locs1 → W p l e R s m args below meth c H1 locs1 (cells + mc) (slots + ms) Q (F0 m (pc + 3) ls (.int v :: rest))) : W p l e R s m args below meth c H locs cells slots Q (F0 m pc ls st0) := by
  have hp := gX_pre (av := .ref bb :: av) hE hK hH hZ
  have hsub := g_sub hH.2.2.1 hH.2.2.2.1 hH.2.2.2.2.1
  refine vx_calli (A0 := A) (AX := fun _ => False) (px := fun _ : Unit => False) (BX := fun _ _ _ => True) (vx_runVX (As := av) (rest := rest) S hM (vx_cwVW av.length S.2.2.2.2 hG rfl hrc hrs hd hR) ⟨hp.1, hb, hp.2⟩ rfl rfl hl.1 hst (lv_room hsum) hdg hf) hH.2.2.1 (fun q _ h => hsub q h) hsub (fun _ _ h => h.elim) (fun E ce q9 u t H1 locs1 _ _ hF => hF.elim) (fun r u t H1 locs1 ht hvm hr hB hz hk hS => ?_)
  subst hr
  obtain ⟨hP1, hD1, hX1, hn⟩ := hB
  rw [ht] at hP1
  exact k u H1 locs1 (gq_new hH hP1 hD1 hX1 hS hn)
end XAL
