set_option maxRecDepth 100000
/-! CapCouncil.isIn (III)Z -/
def X_isIn (a0 : Int32) (a1 : Int32) (a2 : Int32) : Option Int32 :=
  if a0 < a1 then
    (some (0 : Int32))
  else
    (if a2 < a0 then
      (some (0 : Int32))
    else
      (some (1 : Int32)))
def rm_X_isIn : Room := { frames := 0, cells := 0, slots := 0, locals := 0 }
set_option maxHeartbeats 4000000 in
set_option maxRecDepth 100000 in
theorem met_X_isIn (l : Launch) (a0 : Int32) (a1 : Int32) (a2 : Int32) (z : Int32) (hd : X_isIn a0 a1 a2 = some z) : Met l yX0_isIn (ws_ yX0_isIn cX0_isIn 3 (some .boolean)) rm_X_isIn (va_Pc [.int a0, .int a1, .int a2] (fun _ => True)) (vp_Si (fun r => r = z)) 0 0 (fun _ => False) := by
  refine p_met (cc := cX0_isIn) (maxL := 3) (ret := (some .boolean)) (by decide) (Nat.le_of_ble_eq_true rfl) ?_
  intro p e U m args below meth c ls S hr hlk hl
  have S : CallFix p m c cX0_isIn 3 U args lw_all RX0 := S
  have hx := S.1
  have hb := S.2.1
  have hl : lv_has ls 3 [(0, .int a0), (1, .int a1), (2, .int a2)] := hl
  unfold X_isIn at hd
  refine lv_iload_n (pc := 0) hx hb dX0_isIn_0 rfl (lv_at hl 0 rfl) ?_
  refine lv_iload_n (pc := 1) hx hb dX0_isIn_1 rfl (lv_at hl 1 rfl) ?_
  refine lv_icmp_lt (pc := 2) (tgt := 14) hx hb dX0_isIn_2 (by decide) (fun c1 => ?_) (fun c1 => ?_)
  · have hd := if_t c1 hd
    refine lv_iconst (v := (0 : Int32)) (pc := 14) hx hb dX0_isIn_14 (by decide) ?_
    exact r_zret rfl hd S hr hlk dX0_isIn_15
  · have hd := if_n c1 hd
    refine lv_iload_n (pc := 5) hx hb dX0_isIn_5 rfl (lv_at hl 0 rfl) ?_
    refine lv_iload_n (pc := 6) hx hb dX0_isIn_6 rfl (lv_at hl 2 rfl) ?_
    refine lv_icmp_gt (pc := 7) (tgt := 14) hx hb dX0_isIn_7 (by decide) (fun c2 => ?_) (fun c2 => ?_)
    · have hd := if_t c2 hd
      refine lv_iconst (v := (0 : Int32)) (pc := 14) hx hb dX0_isIn_14 (by decide) ?_
      exact r_zret rfl hd S hr hlk dX0_isIn_15
    · have hd := if_n c2 hd
      refine lv_iconst (v := (1 : Int32)) (pc := 10) hx hb dX0_isIn_10 (by decide) ?_
      refine lv_goto (pc := 11) (tgt := 15) hx hb dX0_isIn_11 (by decide) ?_
      exact r_zret rfl hd S hr hlk dX0_isIn_15
section CR_X_isIn
variable {p : Program} {l : Launch} {e : Env} {R : Room} {s : State} {m : MethodId} {args : Array Value} {below : List Frame} {meth : Method} {c : Code} {H : Heap} {locs : List Loc} {cells slots : Nat} {Q : State → Prop}
variable {cc : ByteArray} {pc nL idx : Nat} {ls : Array Slot} {rest : List Value} {lv : List (Nat × Value)} {A : Nat → Prop} {H0 : Heap} {own : String}
theorem call_X_isIn {a0 : Int32} {a1 : Int32} {a2 : Int32} {z : Int32} (S : CallFix p m c cc nL s args lw_all own) (hl : lv_has ls nL lv) (hlk : Cond.methodLink own idx yX0_isIn ∈ lw_all) (hv : X_isIn a0 a1 a2 = some z) (hR : 1 ≤ R.frames ∧ 22 ≤ R.locals) (hsum : (rest.map fun v => v.category).sum ≤ 8) (hdg : decode cc pc = .ok (.invokestatic idx, 3)) (hf : cells ≤ R.cells ∧ slots ≤ R.slots)
    (k : W p l e R s m args below meth c H locs cells slots Q (F0 m (pc + 3) ls (.int z :: rest))) : W p l e R s m args below meth c H locs cells slots Q (F0 m pc ls (.int a2 :: .int a1 :: .int a0 :: rest)) :=
  p_calli (av := [.int a0, .int a1, .int a2]) S hl (met_X_isIn l a0 a1 a2 z hv) (lw_S hlk q286 q69 q287) rfl rfl ⟨by decide, by decide, by show (parseMethodDescriptor yX0_isIn.desc).map (fun d => d.parameters.length) = some 3; decide +kernel⟩ hR rfl hsum hdg hf k
end CR_X_isIn
/-! CapCouncil.isRow (I)Z -/
def X_isRow (a0 : Int32) : Option Int32 :=
  (X_isIn a0 (0 : Int32) (5 : Int32)).bind fun v1 =>
  bs_gb v1 (some v1)
def rm_X_isRow : Room := { frames := 1, cells := 0, slots := 0, locals := 22 }
set_option maxHeartbeats 4000000 in
set_option maxRecDepth 100000 in
theorem met_X_isRow (l : Launch) (a0 : Int32) (z : Int32) (hd : X_isRow a0 = some z) : Met l yX0_isRow (ws_ yX0_isRow cX0_isRow 1 (some .boolean)) rm_X_isRow (va_Pc [.int a0] (fun _ => True)) (vp_Si (fun r => r = z)) 0 0 (fun _ => False) := by
  refine p_met (cc := cX0_isRow) (maxL := 1) (ret := (some .boolean)) (by decide) (Nat.le_of_ble_eq_true rfl) ?_
  intro p e U m args below meth c ls S hr hlk hl
  have S : CallFix p m c cX0_isRow 1 U args lw_all RX0 := S
  have hx := S.1
  have hb := S.2.1
  have hl : lv_has ls 1 [(0, .int a0)] := hl
  unfold X_isRow at hd
  refine lv_iload_n (pc := 0) hx hb dX0_isRow_0 rfl (lv_at hl 0 rfl) ?_
  refine lv_iconst (v := (0 : Int32)) (pc := 1) hx hb dX0_isRow_1 (by decide) ?_
  refine lv_iconst (v := (5 : Int32)) (pc := 2) hx hb dX0_isRow_2 (by decide) ?_
  obtain ⟨v1, hv1, hd⟩ := bs_bd hd
  refine call_X_isIn (pc := 3) S hl q285 hv1 ⟨Nat.le_of_ble_eq_true rfl, Nat.le_of_ble_eq_true rfl⟩ (Nat.le_of_ble_eq_true rfl) dX0_isRow_3 ⟨Nat.zero_le _, Nat.zero_le _⟩ ?_
  obtain ⟨hn2, hd⟩ := bs_gb_spec hd
  exact r_zret hn2 hd S hr hlk dX0_isRow_6
section CR_X_isRow
variable {p : Program} {l : Launch} {e : Env} {R : Room} {s : State} {m : MethodId} {args : Array Value} {below : List Frame} {meth : Method} {c : Code} {H : Heap} {locs : List Loc} {cells slots : Nat} {Q : State → Prop}
variable {cc : ByteArray} {pc nL idx : Nat} {ls : Array Slot} {rest : List Value} {lv : List (Nat × Value)} {A : Nat → Prop} {H0 : Heap} {own : String}
theorem call_X_isRow {a0 : Int32} {z : Int32} (S : CallFix p m c cc nL s args lw_all own) (hl : lv_has ls nL lv) (hlk : Cond.methodLink own idx yX0_isRow ∈ lw_all) (hv : X_isRow a0 = some z) (hR : 2 ≤ R.frames ∧ 42 ≤ R.locals) (hsum : (rest.map fun v => v.category).sum ≤ 8) (hdg : decode cc pc = .ok (.invokestatic idx, 3)) (hf : cells ≤ R.cells ∧ slots ≤ R.slots)
    (k : W p l e R s m args below meth c H locs cells slots Q (F0 m (pc + 3) ls (.int z :: rest))) : W p l e R s m args below meth c H locs cells slots Q (F0 m pc ls (.int a0 :: rest)) :=
  p_calli (av := [.int a0]) S hl (met_X_isRow l a0 z hv) (lw_S hlk q283 q69 q284) rfl rfl ⟨by decide, by decide, by show (parseMethodDescriptor yX0_isRow.desc).map (fun d => d.parameters.length) = some 1; decide +kernel⟩ hR rfl hsum hdg hf k
end CR_X_isRow
/-! CapCouncil.found (I)I -/
def X_found (st : XS) (a1 : Int32) : Option (XS × Int32) :=
  bs_let (sxi st 0 a1) fun s1 =>
  (bs_ld (xa s1 0) 6 a1).bind fun v2 =>
  (xast s1 0 6 a1 (v2 + (1 : Int32))).bind fun s3 =>
  some (s3, (-3 : Int32))
def rm_X_found : Room := { frames := 0, cells := 0, slots := 0, locals := 0 }
set_option maxHeartbeats 4000000 in
set_option maxRecDepth 100000 in
theorem met_X_found (l : Launch) (D : va_G) (ct : Nat → ClassId) (a : XA) (ρ : Option Nat) (sz : Nat) (st : XS) (a1 : Int32) (z : (XS × Int32)) (hd : X_found st a1 = some z) : Met l yX0_found (ws_ yX0_found cX0_found 2 (some .int)) rm_X_found (GPre gEX D ct (xAs a) (WX ct a ρ st) sz [.ref (ah a 0), .int a1]) (GQi D (xAs a) (xAs a) (WX ct a ρ z.1) sz z.2) 0 0 (gA (xAs a) sz) := by
  refine g_met (cc := cX0_found) (maxL := 2) (ret := (some .int)) (by decide) (Nat.le_of_ble_eq_true rfl) ?_
  intro p e U m args below meth c ls S hr hlk hK hH hE hsz hl
  have S : CallFix p m c cX0_found 2 U args lw_all RX0 := S
  have hx := S.1
  have hb := S.2.1
  have hl : lv_has ls 2 [(0, .ref (ah a 0)), (1, .int a1)] := hl
  unfold X_found at hd
  refine lv_aload_n (pc := 0) hx hb dX0_found_0 rfl (lv_at hl 0 rfl) ?_
  refine lv_iload_n (pc := 1) hx hb dX0_found_1 rfl (lv_at hl 1 rfl) ?_
  obtain ⟨s1, es1, hd⟩ := bs_let_spec hd
  refine xp_finding (pc := 2) S hK hH dX0_found_2 es1 (fun H locs hH => ?_)
  refine lv_aload_n (pc := 5) hx hb dX0_found_5 rfl (lv_at hl 0 rfl) ?_
  refine xg_findings (pc := 6) S hK hH dX0_found_6 ?_
  refine lv_iload_n (pc := 9) hx hb dX0_found_9 rfl (lv_at hl 1 rfl) ?_
  refine lv_dup2_11 (pc := 10) hx hb dX0_found_10 rfl rfl ?_
  obtain ⟨v2, hv2, hd⟩ := bs_bd hd
  refine xl_findings (pc := 11) S hK hH hv2 dX0_found_11 ?_
  refine lv_iconst (v := (1 : Int32)) (pc := 12) hx hb dX0_found_12 (by decide) ?_
  refine lv_iadd (pc := 13) hx hb dX0_found_13 ?_
  obtain ⟨s3, hs3, hd⟩ := bs_bd hd
  refine xs_findings (pc := 14) S hK hH hs3 dX0_found_14 (fun H locs hH => ?_)
  refine lv_bipush (v := (-3 : Int32)) (pc := 15) hx hb dX0_found_15 (by decide) ?_
  exact g_iret (WX ct a ρ) hd S hr hlk hH dX0_found_17
section CR_X_found
variable {p : Program} {l : Launch} {e : Env} {R : Room} {s : State} {m : MethodId} {args : Array Value} {below : List Frame} {meth : Method} {c : Code} {H : Heap} {locs : List Loc} {cells slots : Nat} {Q : State → Prop}
variable {cc : ByteArray} {pc nL idx : Nat} {ls : Array Slot} {rest : List Value} {lv : List (Nat × Value)} {A : Nat → Prop} {H0 : Heap} {own : String}
theorem call_X_found {D : va_G} {ct : Nat → ClassId} {a : XA} {ρ : Option Nat} {st : XS} {a1 : Int32} {z : (XS × Int32)} (S : CallFix p m c cc nL s args lw_all own) (hl : lv_has ls nL lv) (hE : gEX s) (hK : va_K D clA (tysG ct) s) (hH : GH D A (xAs a) H0 (WX ct a ρ st) H locs) (hlk : Cond.methodLink own idx yX0_found ∈ lw_all) (hv : X_found st a1 = some z) (hR : 1 ≤ R.frames ∧ 21 ≤ R.locals) (hsum : (rest.map fun v => v.category).sum ≤ 8) (hdg : decode cc pc = .ok (.invokevirtual idx, 3)) (hf : cells ≤ R.cells ∧ slots ≤ R.slots)
    (k : ∀ (H1 : Heap) (locs1 : List Loc), GH D A (xAs a) H0 (WX ct a ρ z.1) H1 locs1 → W p l e R s m args below meth c H1 locs1 cells slots Q (F0 m (pc + 3) ls (.int z.2 :: rest))) : W p l e R s m args below meth c H locs cells slots Q (F0 m pc ls (.int a1 :: .ref (ah a 0) :: rest)) :=
  g_calli (av := [.int a1]) S hl gEX_ok hE hK hH (met_X_found l D ct a ρ H.size st a1 z hv) (lw_V hlk q290 qs2 q69 q291) rfl rfl ⟨rfl, by decide, by decide, by show (parseMethodDescriptor yX0_found.desc).map (fun d => d.parameters.length) = some 1; decide +kernel⟩ hR (x_recv hK hH) (fun _ h => Or.inl h) rfl hsum hdg hf k
end CR_X_found
/-! CapCouncil.ask (II)I -/
def X_ask (st : XS) (a1 : Int32) (a2 : Int32) : Option (XS × Int32) :=
  bs_let (sxi st 1 a1) fun s1 =>
  some (s1, a2)
def rm_X_ask : Room := { frames := 0, cells := 0, slots := 0, locals := 0 }
set_option maxHeartbeats 4000000 in
set_option maxRecDepth 100000 in
theorem met_X_ask (l : Launch) (D : va_G) (ct : Nat → ClassId) (a : XA) (ρ : Option Nat) (sz : Nat) (st : XS) (a1 : Int32) (a2 : Int32) (z : (XS × Int32)) (hd : X_ask st a1 a2 = some z) : Met l yX0_ask (ws_ yX0_ask cX0_ask 3 (some .int)) rm_X_ask (GPre gEX D ct (xAs a) (WX ct a ρ st) sz [.ref (ah a 0), .int a1, .int a2]) (GQi D (xAs a) (xAs a) (WX ct a ρ z.1) sz z.2) 0 0 (gA (xAs a) sz) := by
  refine g_met (cc := cX0_ask) (maxL := 3) (ret := (some .int)) (by decide) (Nat.le_of_ble_eq_true rfl) ?_
  intro p e U m args below meth c ls S hr hlk hK hH hE hsz hl
  have S : CallFix p m c cX0_ask 3 U args lw_all RX0 := S
  have hx := S.1
  have hb := S.2.1
  have hl : lv_has ls 3 [(0, .ref (ah a 0)), (1, .int a1), (2, .int a2)] := hl
  unfold X_ask at hd
  refine lv_aload_n (pc := 0) hx hb dX0_ask_0 rfl (lv_at hl 0 rfl) ?_
  refine lv_iload_n (pc := 1) hx hb dX0_ask_1 rfl (lv_at hl 1 rfl) ?_
  obtain ⟨s1, es1, hd⟩ := bs_let_spec hd
  refine xp_asked (pc := 2) S hK hH dX0_ask_2 es1 (fun H locs hH => ?_)
  refine lv_iload_n (pc := 5) hx hb dX0_ask_5 rfl (lv_at hl 2 rfl) ?_
  exact g_iret (WX ct a ρ) hd S hr hlk hH dX0_ask_6
section CR_X_ask
variable {p : Program} {l : Launch} {e : Env} {R : Room} {s : State} {m : MethodId} {args : Array Value} {below : List Frame} {meth : Method} {c : Code} {H : Heap} {locs : List Loc} {cells slots : Nat} {Q : State → Prop}
variable {cc : ByteArray} {pc nL idx : Nat} {ls : Array Slot} {rest : List Value} {lv : List (Nat × Value)} {A : Nat → Prop} {H0 : Heap} {own : String}
theorem call_X_ask {D : va_G} {ct : Nat → ClassId} {a : XA} {ρ : Option Nat} {st : XS} {a1 : Int32} {a2 : Int32} {z : (XS × Int32)} (S : CallFix p m c cc nL s args lw_all own) (hl : lv_has ls nL lv) (hE : gEX s) (hK : va_K D clA (tysG ct) s) (hH : GH D A (xAs a) H0 (WX ct a ρ st) H locs) (hlk : Cond.methodLink own idx yX0_ask ∈ lw_all) (hv : X_ask st a1 a2 = some z) (hR : 1 ≤ R.frames ∧ 22 ≤ R.locals) (hsum : (rest.map fun v => v.category).sum ≤ 8) (hdg : decode cc pc = .ok (.invokevirtual idx, 3)) (hf : cells ≤ R.cells ∧ slots ≤ R.slots)
    (k : ∀ (H1 : Heap) (locs1 : List Loc), GH D A (xAs a) H0 (WX ct a ρ z.1) H1 locs1 → W p l e R s m args below meth c H1 locs1 cells slots Q (F0 m (pc + 3) ls (.int z.2 :: rest))) : W p l e R s m args below meth c H locs cells slots Q (F0 m pc ls (.int a2 :: .int a1 :: .ref (ah a 0) :: rest)) :=
  g_calli (av := [.int a1, .int a2]) S hl gEX_ok hE hK hH (met_X_ask l D ct a ρ H.size st a1 a2 z hv) (lw_V hlk q346 qs3 q69 q347) rfl rfl ⟨rfl, by decide, by decide, by show (parseMethodDescriptor yX0_ask.desc).map (fun d => d.parameters.length) = some 2; decide +kernel⟩ hR (x_recv hK hH) (fun _ h => Or.inl h) rfl hsum hdg hf k
end CR_X_ask
/-! CapCouncil.isText (I)Z -/
def X_isText (a0 : Int32) : Option Int32 :=
  (X_isIn a0 (0 : Int32) (3 : Int32)).bind fun v1 =>
  bs_gb v1 (some v1)
def rm_X_isText : Room := { frames := 1, cells := 0, slots := 0, locals := 22 }
set_option maxHeartbeats 4000000 in
set_option maxRecDepth 100000 in
theorem met_X_isText (l : Launch) (a0 : Int32) (z : Int32) (hd : X_isText a0 = some z) : Met l yX0_isText (ws_ yX0_isText cX0_isText 1 (some .boolean)) rm_X_isText (va_Pc [.int a0] (fun _ => True)) (vp_Si (fun r => r = z)) 0 0 (fun _ => False) := by
  refine p_met (cc := cX0_isText) (maxL := 1) (ret := (some .boolean)) (by decide) (Nat.le_of_ble_eq_true rfl) ?_
  intro p e U m args below meth c ls S hr hlk hl
  have S : CallFix p m c cX0_isText 1 U args lw_all RX0 := S
  have hx := S.1
  have hb := S.2.1
  have hl : lv_has ls 1 [(0, .int a0)] := hl
  unfold X_isText at hd
  refine lv_iload_n (pc := 0) hx hb dX0_isText_0 rfl (lv_at hl 0 rfl) ?_
  refine lv_iconst (v := (0 : Int32)) (pc := 1) hx hb dX0_isText_1 (by decide) ?_
  refine lv_iconst (v := (3 : Int32)) (pc := 2) hx hb dX0_isText_2 (by decide) ?_
  obtain ⟨v1, hv1, hd⟩ := bs_bd hd
  refine call_X_isIn (pc := 3) S hl q285 hv1 ⟨Nat.le_of_ble_eq_true rfl, Nat.le_of_ble_eq_true rfl⟩ (Nat.le_of_ble_eq_true rfl) dX0_isText_3 ⟨Nat.zero_le _, Nat.zero_le _⟩ ?_
  obtain ⟨hn2, hd⟩ := bs_gb_spec hd
  exact r_zret hn2 hd S hr hlk dX0_isText_6
section CR_X_isText
variable {p : Program} {l : Launch} {e : Env} {R : Room} {s : State} {m : MethodId} {args : Array Value} {below : List Frame} {meth : Method} {c : Code} {H : Heap} {locs : List Loc} {cells slots : Nat} {Q : State → Prop}
variable {cc : ByteArray} {pc nL idx : Nat} {ls : Array Slot} {rest : List Value} {lv : List (Nat × Value)} {A : Nat → Prop} {H0 : Heap} {own : String}
theorem call_X_isText {a0 : Int32} {z : Int32} (S : CallFix p m c cc nL s args lw_all own) (hl : lv_has ls nL lv) (hlk : Cond.methodLink own idx yX0_isText ∈ lw_all) (hv : X_isText a0 = some z) (hR : 2 ≤ R.frames ∧ 42 ≤ R.locals) (hsum : (rest.map fun v => v.category).sum ≤ 8) (hdg : decode cc pc = .ok (.invokestatic idx, 3)) (hf : cells ≤ R.cells ∧ slots ≤ R.slots)
    (k : W p l e R s m args below meth c H locs cells slots Q (F0 m (pc + 3) ls (.int z :: rest))) : W p l e R s m args below meth c H locs cells slots Q (F0 m pc ls (.int a0 :: rest)) :=
  p_calli (av := [.int a0]) S hl (met_X_isText l a0 z hv) (lw_S hlk q384 q69 q385) rfl rfl ⟨by decide, by decide, by show (parseMethodDescriptor yX0_isText.desc).map (fun d => d.parameters.length) = some 1; decide +kernel⟩ hR rfl hsum hdg hf k
end CR_X_isText
/-! CapCouncil.sign ()I -/
def X_sign (st : XS) (t : Nat) : Option Int32 :=
  (xrn st (6 + t)).bind fun v1 =>
  if v1 ≤ (xi st 4) then
    (some (-9 : Int32))
  else
    ((xrl st (6 + t) (xi st 4)).bind fun v3 =>
    some v3)
def rm_X_sign : Room := { frames := 0, cells := 0, slots := 0, locals := 0 }
set_option maxHeartbeats 4000000 in
set_option maxRecDepth 100000 in
theorem met_X_sign (l : Launch) (D : va_G) (ct : Nat → ClassId) (a : XA) (sz : Nat) (st : XS) (t : Nat) (z : Int32) (hd : X_sign st t = some z) : Met l yX0_sign (ws_ yX0_sign cX0_sign 1 (some .int)) rm_X_sign (GPre gEX D ct (xAs a) (WX ct a (some t) st) sz [.ref (ah a 0)]) (vp_Si (fun r => r = z)) 0 0 (fun _ => False) := by
  refine g_met (cc := cX0_sign) (maxL := 1) (ret := (some .int)) (by decide) (Nat.le_of_ble_eq_true rfl) ?_
  intro p e U m args below meth c ls S hr hlk hK hH hE hsz hl
  have S : CallFix p m c cX0_sign 1 U args lw_all RX0 := S
  have hx := S.1
  have hb := S.2.1
  have hl : lv_has ls 1 [(0, .ref (ah a 0))] := hl
  unfold X_sign at hd
  refine lv_aload_n (pc := 0) hx hb dX0_sign_0 rfl (lv_at hl 0 rfl) ?_
  refine xg_readAt (pc := 1) S hK hH dX0_sign_1 ?_
  refine lv_aload_n (pc := 4) hx hb dX0_sign_4 rfl (lv_at hl 0 rfl) ?_
  refine xg_readingT (pc := 5) S hK hH dX0_sign_5 ?_
  obtain ⟨v1, hv1, hd⟩ := bs_bd hd
  refine xr_len (pc := 8) (j := (6 + t)) S hK hH (Nat.add_lt_add_left (xo_rd hH).2 6) hv1 dX0_sign_8 ?_
  refine lv_icmp_ge (pc := 9) (tgt := 24) hx hb dX0_sign_9 (by decide) (fun c2 => ?_) (fun c2 => ?_)
  · have hd := if_t c2 hd
    refine lv_bipush (v := (-9 : Int32)) (pc := 24) hx hb dX0_sign_24 (by decide) ?_
    exact r_iret hd S hr hlk dX0_sign_26
  · have hd := if_n c2 hd
    refine lv_aload_n (pc := 12) hx hb dX0_sign_12 rfl (lv_at hl 0 rfl) ?_
    refine xg_readingT (pc := 13) S hK hH dX0_sign_13 ?_
    refine lv_aload_n (pc := 16) hx hb dX0_sign_16 rfl (lv_at hl 0 rfl) ?_
    refine xg_readAt (pc := 17) S hK hH dX0_sign_17 ?_
    obtain ⟨v3, hv3, hd⟩ := bs_bd hd
    refine xr_bld (pc := 20) S hK hH (xo_rd hH).2 hv3 dX0_sign_20 ?_
    refine lv_goto (pc := 21) (tgt := 26) hx hb dX0_sign_21 (by decide) ?_
    exact r_iret hd S hr hlk dX0_sign_26
section CR_X_sign
variable {p : Program} {l : Launch} {e : Env} {R : Room} {s : State} {m : MethodId} {args : Array Value} {below : List Frame} {meth : Method} {c : Code} {H : Heap} {locs : List Loc} {cells slots : Nat} {Q : State → Prop}
variable {cc : ByteArray} {pc nL idx : Nat} {ls : Array Slot} {rest : List Value} {lv : List (Nat × Value)} {A : Nat → Prop} {H0 : Heap} {own : String}
theorem call_X_sign {D : va_G} {ct : Nat → ClassId} {a : XA} {st : XS} {t : Nat} {z : Int32} (S : CallFix p m c cc nL s args lw_all own) (hl : lv_has ls nL lv) (hE : gEX s) (hK : va_K D clA (tysG ct) s) (hH : GH D A (xAs a) H0 (WX ct a (some t) st) H locs) (hlk : Cond.methodLink own idx yX0_sign ∈ lw_all) (hv : X_sign st t = some z) (hR : 1 ≤ R.frames ∧ 20 ≤ R.locals) (hsum : (rest.map fun v => v.category).sum ≤ 8) (hdg : decode cc pc = .ok (.invokevirtual idx, 3)) (hf : cells ≤ R.cells ∧ slots ≤ R.slots)
    (k : W p l e R s m args below meth c H locs cells slots Q (F0 m (pc + 3) ls (.int z :: rest))) : W p l e R s m args below meth c H locs cells slots Q (F0 m pc ls (.ref (ah a 0) :: rest)) :=
  r_calli (av := []) S hl gEX_ok hE hK hH (met_X_sign l D ct a H.size st t z hv) (lw_V hlk q400 qs5 q69 q401) rfl rfl ⟨rfl, by decide, by decide, by show (parseMethodDescriptor yX0_sign.desc).map (fun d => d.parameters.length) = some 0; decide +kernel⟩ hR (x_recv hK hH) rfl hsum hdg hf k
end CR_X_sign
/-! CapCouncil.kindBy (I)I -/
def X_kindBy (a0 : Int32) : Option Int32 :=
  if a0 = (114 : Int32) then
    (some (0 : Int32))
  else
    (if a0 = (111 : Int32) then
      (some (1 : Int32))
    else
      (if a0 = (97 : Int32) then
        (some (2 : Int32))
      else
        (if a0 = (112 : Int32) then
          (some (3 : Int32))
        else
          (if a0 = (100 : Int32) then
            (some (4 : Int32))
          else
            (if a0 = (119 : Int32) then
              (some (5 : Int32))
            else
              (some (-9 : Int32)))))))
def rm_X_kindBy : Room := { frames := 0, cells := 0, slots := 0, locals := 0 }
set_option maxHeartbeats 4000000 in
set_option maxRecDepth 100000 in
theorem met_X_kindBy (l : Launch) (a0 : Int32) (z : Int32) (hd : X_kindBy a0 = some z) : Met l yX0_kindBy (ws_ yX0_kindBy cX0_kindBy 1 (some .int)) rm_X_kindBy (va_Pc [.int a0] (fun _ => True)) (vp_Si (fun r => r = z)) 0 0 (fun _ => False) := by
  refine p_met (cc := cX0_kindBy) (maxL := 1) (ret := (some .int)) (by decide) (Nat.le_of_ble_eq_true rfl) ?_
  intro p e U m args below meth c ls S hr hlk hl
  have S : CallFix p m c cX0_kindBy 1 U args lw_all RX0 := S
  have hx := S.1
  have hb := S.2.1
  have hl : lv_has ls 1 [(0, .int a0)] := hl
  unfold X_kindBy at hd
  refine lv_iload_n (pc := 0) hx hb dX0_kindBy_0 rfl (lv_at hl 0 rfl) ?_
  refine lv_bipush (v := (114 : Int32)) (pc := 1) hx hb dX0_kindBy_1 (by decide) ?_
  refine lv_icmp_ne (pc := 3) (tgt := 10) hx hb dX0_kindBy_3 (by decide) (fun c1 => ?_) (fun c1 => ?_)
  · have hd := if_n c1 hd
    refine lv_iload_n (pc := 10) hx hb dX0_kindBy_10 rfl (lv_at hl 0 rfl) ?_
    refine lv_bipush (v := (111 : Int32)) (pc := 11) hx hb dX0_kindBy_11 (by decide) ?_
    refine lv_icmp_ne (pc := 13) (tgt := 20) hx hb dX0_kindBy_13 (by decide) (fun c2 => ?_) (fun c2 => ?_)
    · have hd := if_n c2 hd
      refine lv_iload_n (pc := 20) hx hb dX0_kindBy_20 rfl (lv_at hl 0 rfl) ?_
      refine lv_bipush (v := (97 : Int32)) (pc := 21) hx hb dX0_kindBy_21 (by decide) ?_
      refine lv_icmp_ne (pc := 23) (tgt := 30) hx hb dX0_kindBy_23 (by decide) (fun c3 => ?_) (fun c3 => ?_)
      · have hd := if_n c3 hd
        refine lv_iload_n (pc := 30) hx hb dX0_kindBy_30 rfl (lv_at hl 0 rfl) ?_
        refine lv_bipush (v := (112 : Int32)) (pc := 31) hx hb dX0_kindBy_31 (by decide) ?_
        refine lv_icmp_ne (pc := 33) (tgt := 40) hx hb dX0_kindBy_33 (by decide) (fun c4 => ?_) (fun c4 => ?_)
        · have hd := if_n c4 hd
          refine lv_iload_n (pc := 40) hx hb dX0_kindBy_40 rfl (lv_at hl 0 rfl) ?_
          refine lv_bipush (v := (100 : Int32)) (pc := 41) hx hb dX0_kindBy_41 (by decide) ?_
          refine lv_icmp_ne (pc := 43) (tgt := 50) hx hb dX0_kindBy_43 (by decide) (fun c5 => ?_) (fun c5 => ?_)
          · have hd := if_n c5 hd
            refine lv_iload_n (pc := 50) hx hb dX0_kindBy_50 rfl (lv_at hl 0 rfl) ?_
            refine lv_bipush (v := (119 : Int32)) (pc := 51) hx hb dX0_kindBy_51 (by decide) ?_
            refine lv_icmp_ne (pc := 53) (tgt := 60) hx hb dX0_kindBy_53 (by decide) (fun c6 => ?_) (fun c6 => ?_)
            · have hd := if_n c6 hd
              refine lv_bipush (v := (-9 : Int32)) (pc := 60) hx hb dX0_kindBy_60 (by decide) ?_
              exact r_iret hd S hr hlk dX0_kindBy_62
            · have hd := if_t c6 hd
              refine lv_iconst (v := (5 : Int32)) (pc := 56) hx hb dX0_kindBy_56 (by decide) ?_
              refine lv_goto (pc := 57) (tgt := 62) hx hb dX0_kindBy_57 (by decide) ?_
              exact r_iret hd S hr hlk dX0_kindBy_62
          · have hd := if_t c5 hd
            refine lv_iconst (v := (4 : Int32)) (pc := 46) hx hb dX0_kindBy_46 (by decide) ?_
            refine lv_goto (pc := 47) (tgt := 62) hx hb dX0_kindBy_47 (by decide) ?_
            exact r_iret hd S hr hlk dX0_kindBy_62
        · have hd := if_t c4 hd
          refine lv_iconst (v := (3 : Int32)) (pc := 36) hx hb dX0_kindBy_36 (by decide) ?_
          refine lv_goto (pc := 37) (tgt := 62) hx hb dX0_kindBy_37 (by decide) ?_
          exact r_iret hd S hr hlk dX0_kindBy_62
      · have hd := if_t c3 hd
        refine lv_iconst (v := (2 : Int32)) (pc := 26) hx hb dX0_kindBy_26 (by decide) ?_
        refine lv_goto (pc := 27) (tgt := 62) hx hb dX0_kindBy_27 (by decide) ?_
        exact r_iret hd S hr hlk dX0_kindBy_62
    · have hd := if_t c2 hd
      refine lv_iconst (v := (1 : Int32)) (pc := 16) hx hb dX0_kindBy_16 (by decide) ?_
      refine lv_goto (pc := 17) (tgt := 62) hx hb dX0_kindBy_17 (by decide) ?_
      exact r_iret hd S hr hlk dX0_kindBy_62
  · have hd := if_t c1 hd
    refine lv_iconst (v := (0 : Int32)) (pc := 6) hx hb dX0_kindBy_6 (by decide) ?_
    refine lv_goto (pc := 7) (tgt := 62) hx hb dX0_kindBy_7 (by decide) ?_
    exact r_iret hd S hr hlk dX0_kindBy_62
section CR_X_kindBy
variable {p : Program} {l : Launch} {e : Env} {R : Room} {s : State} {m : MethodId} {args : Array Value} {below : List Frame} {meth : Method} {c : Code} {H : Heap} {locs : List Loc} {cells slots : Nat} {Q : State → Prop}
variable {cc : ByteArray} {pc nL idx : Nat} {ls : Array Slot} {rest : List Value} {lv : List (Nat × Value)} {A : Nat → Prop} {H0 : Heap} {own : String}
theorem call_X_kindBy {a0 : Int32} {z : Int32} (S : CallFix p m c cc nL s args lw_all own) (hl : lv_has ls nL lv) (hlk : Cond.methodLink own idx yX0_kindBy ∈ lw_all) (hv : X_kindBy a0 = some z) (hR : 1 ≤ R.frames ∧ 20 ≤ R.locals) (hsum : (rest.map fun v => v.category).sum ≤ 8) (hdg : decode cc pc = .ok (.invokestatic idx, 3)) (hf : cells ≤ R.cells ∧ slots ≤ R.slots)
    (k : W p l e R s m args below meth c H locs cells slots Q (F0 m (pc + 3) ls (.int z :: rest))) : W p l e R s m args below meth c H locs cells slots Q (F0 m pc ls (.int a0 :: rest)) :=
  p_calli (av := [.int a0]) S hl (met_X_kindBy l a0 z hv) (lw_S hlk q419 q69 q420) rfl rfl ⟨by decide, by decide, by show (parseMethodDescriptor yX0_kindBy.desc).map (fun d => d.parameters.length) = some 1; decide +kernel⟩ hR rfl hsum hdg hf k
end CR_X_kindBy
/-! CapCouncil.readsFigure ()I -/
def X_readsFigure (st : XS) (t : Nat) : Option (XS × Int32) :=
  (X_sign st t).bind fun v1 =>
  bs_let (v1 - (48 : Int32)) fun w2 =>
  (X_isIn w2 (0 : Int32) (9 : Int32)).bind fun v3 =>
  if v3 = 0 then
    (some (st, (-9 : Int32)))
  else
    (bs_let ((xi st 4) + (1 : Int32)) fun w5 =>
    bs_let (sxi st 4 w5) fun s6 =>
    some (s6, w2))
def rm_X_readsFigure : Room := { frames := 1, cells := 0, slots := 0, locals := 22 }
set_option maxHeartbeats 4000000 in
set_option maxRecDepth 100000 in
theorem met_X_readsFigure (l : Launch) (D : va_G) (ct : Nat → ClassId) (a : XA) (sz : Nat) (st : XS) (t : Nat) (z : (XS × Int32)) (hd : X_readsFigure st t = some z) : Met l yX0_readsFigure (ws_ yX0_readsFigure cX0_readsFigure 2 (some .int)) rm_X_readsFigure (GPre gEX D ct (xAs a) (WX ct a (some t) st) sz [.ref (ah a 0)]) (GQi D (xAs a) (xAs a) (WX ct a (some t) z.1) sz z.2) 0 0 (gA (xAs a) sz) := by
  refine g_met (cc := cX0_readsFigure) (maxL := 2) (ret := (some .int)) (by decide) (Nat.le_of_ble_eq_true rfl) ?_
  intro p e U m args below meth c ls S hr hlk hK hH hE hsz hl
  have S : CallFix p m c cX0_readsFigure 2 U args lw_all RX0 := S
  have hx := S.1
  have hb := S.2.1
  have hl : lv_has ls 2 [(0, .ref (ah a 0))] := hl
  unfold X_readsFigure at hd
  refine lv_aload_n (pc := 0) hx hb dX0_readsFigure_0 rfl (lv_at hl 0 rfl) ?_
  obtain ⟨v1, hv1, hd⟩ := bs_bd hd
  refine call_X_sign (pc := 1) S hl hE hK hH q398 hv1 ⟨Nat.le_of_ble_eq_true rfl, Nat.le_of_ble_eq_true rfl⟩ (Nat.le_of_ble_eq_true rfl) dX0_readsFigure_1 ⟨Nat.zero_le _, Nat.zero_le _⟩ ?_
  refine lv_bipush (v := (48 : Int32)) (pc := 4) hx hb dX0_readsFigure_4 (by decide) ?_
  refine lv_isub (pc := 6) hx hb dX0_readsFigure_6 ?_
  obtain ⟨w2, ew2, hd⟩ := bs_let_spec hd
  refine lv_topE (pc := 7) ew2 ?_
  refine lv_istore_n (pc := 7) (lv' := [(1, .int w2), (0, .ref (ah a 0))]) hx hb dX0_readsFigure_7 rfl hl (by decide) rfl (fun ls hl => ?_)
  refine lv_iload_n (pc := 8) hx hb dX0_readsFigure_8 rfl (lv_at hl 0 rfl) ?_
  refine lv_iconst (v := (0 : Int32)) (pc := 9) hx hb dX0_readsFigure_9 (by decide) ?_
  refine lv_bipush (v := (9 : Int32)) (pc := 10) hx hb dX0_readsFigure_10 (by decide) ?_
  obtain ⟨v3, hv3, hd⟩ := bs_bd hd
  refine call_X_isIn (pc := 12) S hl q285 hv3 ⟨Nat.le_of_ble_eq_true rfl, Nat.le_of_ble_eq_true rfl⟩ (Nat.le_of_ble_eq_true rfl) dX0_readsFigure_12 ⟨Nat.zero_le _, Nat.zero_le _⟩ ?_
  refine lv_if_ne (pc := 15) (tgt := 21) hx hb dX0_readsFigure_15 (by decide) (fun c4 => ?_) (fun c4 => ?_)
  · have hd := if_n c4 hd
    refine lv_aload_n (pc := 21) hx hb dX0_readsFigure_21 rfl (lv_at hl 1 rfl) ?_
    refine lv_dup (pc := 22) hx hb dX0_readsFigure_22 rfl ?_
    refine xg_readAt (pc := 23) S hK hH dX0_readsFigure_23 ?_
    refine lv_iconst (v := (1 : Int32)) (pc := 26) hx hb dX0_readsFigure_26 (by decide) ?_
    refine lv_iadd (pc := 27) hx hb dX0_readsFigure_27 ?_
    obtain ⟨w5, ew5, hd⟩ := bs_let_spec hd
    refine lv_topE (pc := 28) ew5 ?_
    obtain ⟨s6, es6, hd⟩ := bs_let_spec hd
    refine xp_readAt (pc := 28) S hK hH dX0_readsFigure_28 es6 (fun H locs hH => ?_)
    refine lv_iload_n (pc := 31) hx hb dX0_readsFigure_31 rfl (lv_at hl 0 rfl) ?_
    exact g_iret (WX ct a (some t)) hd S hr hlk hH dX0_readsFigure_32
  · have hd := if_t c4 hd
    refine lv_bipush (v := (-9 : Int32)) (pc := 18) hx hb dX0_readsFigure_18 (by decide) ?_
    exact g_iret (WX ct a (some t)) hd S hr hlk hH dX0_readsFigure_20
section CR_X_readsFigure
variable {p : Program} {l : Launch} {e : Env} {R : Room} {s : State} {m : MethodId} {args : Array Value} {below : List Frame} {meth : Method} {c : Code} {H : Heap} {locs : List Loc} {cells slots : Nat} {Q : State → Prop}
variable {cc : ByteArray} {pc nL idx : Nat} {ls : Array Slot} {rest : List Value} {lv : List (Nat × Value)} {A : Nat → Prop} {H0 : Heap} {own : String}
theorem call_X_readsFigure {D : va_G} {ct : Nat → ClassId} {a : XA} {st : XS} {t : Nat} {z : (XS × Int32)} (S : CallFix p m c cc nL s args lw_all own) (hl : lv_has ls nL lv) (hE : gEX s) (hK : va_K D clA (tysG ct) s) (hH : GH D A (xAs a) H0 (WX ct a (some t) st) H locs) (hlk : Cond.methodLink own idx yX0_readsFigure ∈ lw_all) (hv : X_readsFigure st t = some z) (hR : 2 ≤ R.frames ∧ 43 ≤ R.locals) (hsum : (rest.map fun v => v.category).sum ≤ 8) (hdg : decode cc pc = .ok (.invokevirtual idx, 3)) (hf : cells ≤ R.cells ∧ slots ≤ R.slots)
    (k : ∀ (H1 : Heap) (locs1 : List Loc), GH D A (xAs a) H0 (WX ct a (some t) z.1) H1 locs1 → W p l e R s m args below meth c H1 locs1 cells slots Q (F0 m (pc + 3) ls (.int z.2 :: rest))) : W p l e R s m args below meth c H locs cells slots Q (F0 m pc ls (.ref (ah a 0) :: rest)) :=
  g_calli (av := []) S hl gEX_ok hE hK hH (met_X_readsFigure l D ct a H.size st t z hv) (lw_V hlk q412 qs8 q69 q413) rfl rfl ⟨rfl, by decide, by decide, by show (parseMethodDescriptor yX0_readsFigure.desc).map (fun d => d.parameters.length) = some 0; decide +kernel⟩ hR (x_recv hK hH) (fun _ h => Or.inl h) rfl hsum hdg hf k
end CR_X_readsFigure
/-! CapCouncil.readsCell ()I -/
def X_readsCell_J20 (t : Nat) (st : XS) (x1 : Int32) (y0 : Int32) : Option (XS × Int32) :=
  if y0 = (-9 : Int32) then
    (some (st, (-9 : Int32)))
  else
    (some (st, (((10 : Int32) * x1) + y0)))
def X_readsCell (st : XS) (t : Nat) : Option (XS × Int32) :=
  (X_readsFigure st t).bind fun q1 =>
  if q1.2 = (-9 : Int32) then
    (X_readsCell_J20 t q1.1 q1.2 (-9 : Int32))
  else
    ((X_readsFigure q1.1 t).bind fun q3 =>
    X_readsCell_J20 t q3.1 q1.2 q3.2)
def rm_X_readsCell : Room := { frames := 2, cells := 0, slots := 0, locals := 43 }
set_option maxHeartbeats 4000000 in
set_option maxRecDepth 100000 in
theorem met_X_readsCell (l : Launch) (D : va_G) (ct : Nat → ClassId) (a : XA) (sz : Nat) (st : XS) (t : Nat) (z : (XS × Int32)) (hd : X_readsCell st t = some z) : Met l yX0_readsCell (ws_ yX0_readsCell cX0_readsCell 3 (some .int)) rm_X_readsCell (GPre gEX D ct (xAs a) (WX ct a (some t) st) sz [.ref (ah a 0)]) (GQi D (xAs a) (xAs a) (WX ct a (some t) z.1) sz z.2) 0 0 (gA (xAs a) sz) := by
  refine g_met (cc := cX0_readsCell) (maxL := 3) (ret := (some .int)) (by decide) (Nat.le_of_ble_eq_true rfl) ?_
  intro p e U m args below meth c ls S hr hlk hK hH hE hsz hl
  have S : CallFix p m c cX0_readsCell 3 U args lw_all RX0 := S
  have hx := S.1
  have hb := S.2.1
  have hl : lv_has ls 3 [(0, .ref (ah a 0))] := hl
  have h20 : ∀ (st : XS) (x1 : Int32) (y0 : Int32) (H : Heap) (locs : List Loc) (ls : Array Slot), GH D (gA (xAs a) sz) (xAs a) U.heap (WX ct a (some t) st) H locs → lv_has ls 3 [(0, .ref (ah a 0)), (1, .int x1)] → X_readsCell_J20 t st x1 y0 = some z → W p l e rm_X_readsCell U m args below meth c H locs 0 0 (MQ below (GQi D (xAs a) (xAs a) (WX ct a (some t) z.1) sz z.2) args U 0 0 (gA (xAs a) sz)) (F0 m 20 ls [.int y0]) := by
    intro st x1 y0 H locs ls hH hl hd
    unfold X_readsCell_J20 at hd
    refine lv_istore_n (pc := 20) (lv' := [(2, .int y0), (0, .ref (ah a 0)), (1, .int x1)]) hx hb dX0_readsCell_20 rfl hl (by decide) rfl (fun ls hl => ?_)
    refine lv_iload_n (pc := 21) hx hb dX0_readsCell_21 rfl (lv_at hl 0 rfl) ?_
    refine lv_bipush (v := (-9 : Int32)) (pc := 22) hx hb dX0_readsCell_22 (by decide) ?_
    refine lv_icmp_ne (pc := 24) (tgt := 32) hx hb dX0_readsCell_24 (by decide) (fun c4 => ?_) (fun c4 => ?_)
    · have hd := if_n c4 hd
      refine lv_bipush (v := (10 : Int32)) (pc := 32) hx hb dX0_readsCell_32 (by decide) ?_
      refine lv_iload_n (pc := 34) hx hb dX0_readsCell_34 rfl (lv_at hl 2 rfl) ?_
      refine lv_imul (pc := 35) hx hb dX0_readsCell_35 ?_
      refine lv_iload_n (pc := 36) hx hb dX0_readsCell_36 rfl (lv_at hl 0 rfl) ?_
      refine lv_iadd (pc := 37) hx hb dX0_readsCell_37 ?_
      exact g_iret (WX ct a (some t)) hd S hr hlk hH dX0_readsCell_38
    · have hd := if_t c4 hd
      refine lv_bipush (v := (-9 : Int32)) (pc := 27) hx hb dX0_readsCell_27 (by decide) ?_
      refine lv_goto (pc := 29) (tgt := 38) hx hb dX0_readsCell_29 (by decide) ?_
      exact g_iret (WX ct a (some t)) hd S hr hlk hH dX0_readsCell_38
  unfold X_readsCell at hd
  refine lv_aload_n (pc := 0) hx hb dX0_readsCell_0 rfl (lv_at hl 0 rfl) ?_
  obtain ⟨q1, hq1, hd⟩ := bs_bd hd
  refine call_X_readsFigure (pc := 1) S hl hE hK hH q410 hq1 ⟨Nat.le_of_ble_eq_true rfl, Nat.le_of_ble_eq_true rfl⟩ (Nat.le_of_ble_eq_true rfl) dX0_readsCell_1 ⟨Nat.zero_le _, Nat.zero_le _⟩ (fun H locs hH => ?_)
  refine lv_istore_n (pc := 4) (lv' := [(1, .int q1.2), (0, .ref (ah a 0))]) hx hb dX0_readsCell_4 rfl hl (by decide) rfl (fun ls hl => ?_)
  refine lv_iload_n (pc := 5) hx hb dX0_readsCell_5 rfl (lv_at hl 0 rfl) ?_
  refine lv_bipush (v := (-9 : Int32)) (pc := 6) hx hb dX0_readsCell_6 (by decide) ?_
  refine lv_icmp_ne (pc := 8) (tgt := 16) hx hb dX0_readsCell_8 (by decide) (fun c2 => ?_) (fun c2 => ?_)
  · have hd := if_n c2 hd
    refine lv_aload_n (pc := 16) hx hb dX0_readsCell_16 rfl (lv_at hl 1 rfl) ?_
    obtain ⟨q3, hq3, hd⟩ := bs_bd hd
    refine call_X_readsFigure (pc := 17) S hl hE hK hH q410 hq3 ⟨Nat.le_of_ble_eq_true rfl, Nat.le_of_ble_eq_true rfl⟩ (Nat.le_of_ble_eq_true rfl) dX0_readsCell_17 ⟨Nat.zero_le _, Nat.zero_le _⟩ (fun H locs hH => ?_)
    exact h20 q3.1 q1.2 q3.2 _ _ _ hH (lv_sub hl [1, 0] rfl) hd
  · have hd := if_t c2 hd
    refine lv_bipush (v := (-9 : Int32)) (pc := 11) hx hb dX0_readsCell_11 (by decide) ?_
    refine lv_goto (pc := 13) (tgt := 20) hx hb dX0_readsCell_13 (by decide) ?_
    exact h20 q1.1 q1.2 (-9 : Int32) _ _ _ hH (lv_sub hl [1, 0] rfl) hd
section CR_X_readsCell
variable {p : Program} {l : Launch} {e : Env} {R : Room} {s : State} {m : MethodId} {args : Array Value} {below : List Frame} {meth : Method} {c : Code} {H : Heap} {locs : List Loc} {cells slots : Nat} {Q : State → Prop}
variable {cc : ByteArray} {pc nL idx : Nat} {ls : Array Slot} {rest : List Value} {lv : List (Nat × Value)} {A : Nat → Prop} {H0 : Heap} {own : String}
theorem call_X_readsCell {D : va_G} {ct : Nat → ClassId} {a : XA} {st : XS} {t : Nat} {z : (XS × Int32)} (S : CallFix p m c cc nL s args lw_all own) (hl : lv_has ls nL lv) (hE : gEX s) (hK : va_K D clA (tysG ct) s) (hH : GH D A (xAs a) H0 (WX ct a (some t) st) H locs) (hlk : Cond.methodLink own idx yX0_readsCell ∈ lw_all) (hv : X_readsCell st t = some z) (hR : 3 ≤ R.frames ∧ 65 ≤ R.locals) (hsum : (rest.map fun v => v.category).sum ≤ 8) (hdg : decode cc pc = .ok (.invokevirtual idx, 3)) (hf : cells ≤ R.cells ∧ slots ≤ R.slots)
    (k : ∀ (H1 : Heap) (locs1 : List Loc), GH D A (xAs a) H0 (WX ct a (some t) z.1) H1 locs1 → W p l e R s m args below meth c H1 locs1 cells slots Q (F0 m (pc + 3) ls (.int z.2 :: rest))) : W p l e R s m args below meth c H locs cells slots Q (F0 m pc ls (.ref (ah a 0) :: rest)) :=
  g_calli (av := []) S hl gEX_ok hE hK hH (met_X_readsCell l D ct a H.size st t z hv) (lw_V hlk q408 qs7 q69 q409) rfl rfl ⟨rfl, by decide, by decide, by show (parseMethodDescriptor yX0_readsCell.desc).map (fun d => d.parameters.length) = some 0; decide +kernel⟩ hR (x_recv hK hH) (fun _ h => Or.inl h) rfl hsum hdg hf k
end CR_X_readsCell
/-! CapCouncil.readsRing ()Z -/
def X_readsRing_J54 (t : Nat) (st : XS) (x1 : Int32) (x2 : Int32) (y0 : Int32) : Option (XS × Int32) :=
  if y0 = (-9 : Int32) then
    (some (st, (0 : Int32)))
  else
    ((xast st 3 15 ((3 : Int32) * (xi st 5)) x1).bind fun s11 =>
    (xast s11 3 15 (((3 : Int32) * (xi s11 5)) + (1 : Int32)) x2).bind fun s12 =>
    (xast s12 3 15 (((3 : Int32) * (xi s12 5)) + (2 : Int32)) y0).bind fun s13 =>
    bs_let ((xi s13 5) + (1 : Int32)) fun w14 =>
    bs_let (sxi s13 5 w14) fun s15 =>
    some (s15, (1 : Int32)))
def X_readsRing (st : XS) (t : Nat) : Option (XS × Int32) :=
  (X_sign st t).bind fun v1 =>
  (X_kindBy v1).bind fun v2 =>
  if v2 = (-9 : Int32) then
    (some (st, (0 : Int32)))
  else
    (if (xi st 5) = (5 : Int32) then
      (some (st, (0 : Int32)))
    else
      (bs_let ((xi st 4) + (1 : Int32)) fun w5 =>
      bs_let (sxi st 4 w5) fun s6 =>
      (X_readsCell s6 t).bind fun q7 =>
      if q7.2 = (-9 : Int32) then
        (X_readsRing_J54 t q7.1 v2 q7.2 (-9 : Int32))
      else
        ((X_readsFigure q7.1 t).bind fun q9 =>
        X_readsRing_J54 t q9.1 v2 q7.2 q9.2)))
def rm_X_readsRing : Room := { frames := 3, cells := 0, slots := 0, locals := 65 }
set_option maxHeartbeats 4000000 in
set_option maxRecDepth 100000 in
theorem met_X_readsRing (l : Launch) (D : va_G) (ct : Nat → ClassId) (a : XA) (sz : Nat) (st : XS) (t : Nat) (z : (XS × Int32)) (hd : X_readsRing st t = some z) : Met l yX0_readsRing (ws_ yX0_readsRing cX0_readsRing 4 (some .boolean)) rm_X_readsRing (GPre gEX D ct (xAs a) (WX ct a (some t) st) sz [.ref (ah a 0)]) (GQi D (xAs a) (xAs a) (WX ct a (some t) z.1) sz z.2) 0 0 (gA (xAs a) sz) := by
  refine g_met (cc := cX0_readsRing) (maxL := 4) (ret := (some .boolean)) (by decide) (Nat.le_of_ble_eq_true rfl) ?_
  intro p e U m args below meth c ls S hr hlk hK hH hE hsz hl
  have S : CallFix p m c cX0_readsRing 4 U args lw_all RX0 := S
  have hx := S.1
  have hb := S.2.1
  have hl : lv_has ls 4 [(0, .ref (ah a 0))] := hl
  have h54 : ∀ (st : XS) (x1 : Int32) (x2 : Int32) (y0 : Int32) (H : Heap) (locs : List Loc) (ls : Array Slot), GH D (gA (xAs a) sz) (xAs a) U.heap (WX ct a (some t) st) H locs → lv_has ls 4 [(0, .ref (ah a 0)), (1, .int x1), (2, .int x2)] → X_readsRing_J54 t st x1 x2 y0 = some z → W p l e rm_X_readsRing U m args below meth c H locs 0 0 (MQ below (GQi D (xAs a) (xAs a) (WX ct a (some t) z.1) sz z.2) args U 0 0 (gA (xAs a) sz)) (F0 m 54 ls [.int y0]) := by
    intro st x1 x2 y0 H locs ls hH hl hd
    unfold X_readsRing_J54 at hd
    refine lv_istore_n (pc := 54) (lv' := [(3, .int y0), (0, .ref (ah a 0)), (1, .int x1), (2, .int x2)]) hx hb dX0_readsRing_54 rfl hl (by decide) rfl (fun ls hl => ?_)
    refine lv_iload_n (pc := 55) hx hb dX0_readsRing_55 rfl (lv_at hl 0 rfl) ?_
    refine lv_bipush (v := (-9 : Int32)) (pc := 56) hx hb dX0_readsRing_56 (by decide) ?_
    refine lv_icmp_ne (pc := 58) (tgt := 63) hx hb dX0_readsRing_58 (by decide) (fun c10 => ?_) (fun c10 => ?_)
    · have hd := if_n c10 hd
      refine lv_aload_n (pc := 63) hx hb dX0_readsRing_63 rfl (lv_at hl 1 rfl) ?_
      refine xg_readRing (pc := 64) S hK hH dX0_readsRing_64 ?_
      refine lv_iconst (v := (3 : Int32)) (pc := 67) hx hb dX0_readsRing_67 (by decide) ?_
      refine lv_aload_n (pc := 68) hx hb dX0_readsRing_68 rfl (lv_at hl 1 rfl) ?_
      refine xg_readRings (pc := 69) S hK hH dX0_readsRing_69 ?_
      refine lv_imul (pc := 72) hx hb dX0_readsRing_72 ?_
      refine lv_iload_n (pc := 73) hx hb dX0_readsRing_73 rfl (lv_at hl 2 rfl) ?_
      obtain ⟨s11, hs11, hd⟩ := bs_bd hd
      refine xs_readRing (pc := 74) S hK hH hs11 dX0_readsRing_74 (fun H locs hH => ?_)
      refine lv_aload_n (pc := 75) hx hb dX0_readsRing_75 rfl (lv_at hl 1 rfl) ?_
      refine xg_readRing (pc := 76) S hK hH dX0_readsRing_76 ?_
      refine lv_iconst (v := (3 : Int32)) (pc := 79) hx hb dX0_readsRing_79 (by decide) ?_
      refine lv_aload_n (pc := 80) hx hb dX0_readsRing_80 rfl (lv_at hl 1 rfl) ?_
      refine xg_readRings (pc := 81) S hK hH dX0_readsRing_81 ?_
      refine lv_imul (pc := 84) hx hb dX0_readsRing_84 ?_
      refine lv_iconst (v := (1 : Int32)) (pc := 85) hx hb dX0_readsRing_85 (by decide) ?_
      refine lv_iadd (pc := 86) hx hb dX0_readsRing_86 ?_
      refine lv_iload_n (pc := 87) hx hb dX0_readsRing_87 rfl (lv_at hl 3 rfl) ?_
      obtain ⟨s12, hs12, hd⟩ := bs_bd hd
      refine xs_readRing (pc := 88) S hK hH hs12 dX0_readsRing_88 (fun H locs hH => ?_)
      refine lv_aload_n (pc := 89) hx hb dX0_readsRing_89 rfl (lv_at hl 1 rfl) ?_
      refine xg_readRing (pc := 90) S hK hH dX0_readsRing_90 ?_
      refine lv_iconst (v := (3 : Int32)) (pc := 93) hx hb dX0_readsRing_93 (by decide) ?_
      refine lv_aload_n (pc := 94) hx hb dX0_readsRing_94 rfl (lv_at hl 1 rfl) ?_
      refine xg_readRings (pc := 95) S hK hH dX0_readsRing_95 ?_
      refine lv_imul (pc := 98) hx hb dX0_readsRing_98 ?_
      refine lv_iconst (v := (2 : Int32)) (pc := 99) hx hb dX0_readsRing_99 (by decide) ?_
      refine lv_iadd (pc := 100) hx hb dX0_readsRing_100 ?_
      refine lv_iload_n (pc := 101) hx hb dX0_readsRing_101 rfl (lv_at hl 0 rfl) ?_
      obtain ⟨s13, hs13, hd⟩ := bs_bd hd
      refine xs_readRing (pc := 102) S hK hH hs13 dX0_readsRing_102 (fun H locs hH => ?_)
      refine lv_aload_n (pc := 103) hx hb dX0_readsRing_103 rfl (lv_at hl 1 rfl) ?_
      refine lv_dup (pc := 104) hx hb dX0_readsRing_104 rfl ?_
      refine xg_readRings (pc := 105) S hK hH dX0_readsRing_105 ?_
      refine lv_iconst (v := (1 : Int32)) (pc := 108) hx hb dX0_readsRing_108 (by decide) ?_
      refine lv_iadd (pc := 109) hx hb dX0_readsRing_109 ?_
      obtain ⟨w14, ew14, hd⟩ := bs_let_spec hd
      refine lv_topE (pc := 110) ew14 ?_
      obtain ⟨s15, es15, hd⟩ := bs_let_spec hd
      refine xp_readRings (pc := 110) S hK hH dX0_readsRing_110 es15 (fun H locs hH => ?_)
      refine lv_iconst (v := (1 : Int32)) (pc := 113) hx hb dX0_readsRing_113 (by decide) ?_
      exact g_zret (WX ct a (some t)) rfl hd S hr hlk hH dX0_readsRing_114
    · have hd := if_t c10 hd
      refine lv_iconst (v := (0 : Int32)) (pc := 61) hx hb dX0_readsRing_61 (by decide) ?_
      exact g_zret (WX ct a (some t)) rfl hd S hr hlk hH dX0_readsRing_62
  unfold X_readsRing at hd
  refine lv_aload_n (pc := 0) hx hb dX0_readsRing_0 rfl (lv_at hl 0 rfl) ?_
  obtain ⟨v1, hv1, hd⟩ := bs_bd hd
  refine call_X_sign (pc := 1) S hl hE hK hH q398 hv1 ⟨Nat.le_of_ble_eq_true rfl, Nat.le_of_ble_eq_true rfl⟩ (Nat.le_of_ble_eq_true rfl) dX0_readsRing_1 ⟨Nat.zero_le _, Nat.zero_le _⟩ ?_
  obtain ⟨v2, hv2, hd⟩ := bs_bd hd
  refine call_X_kindBy (pc := 4) S hl q418 hv2 ⟨Nat.le_of_ble_eq_true rfl, Nat.le_of_ble_eq_true rfl⟩ (Nat.le_of_ble_eq_true rfl) dX0_readsRing_4 ⟨Nat.zero_le _, Nat.zero_le _⟩ ?_
  refine lv_istore_n (pc := 7) (lv' := [(1, .int v2), (0, .ref (ah a 0))]) hx hb dX0_readsRing_7 rfl hl (by decide) rfl (fun ls hl => ?_)
  refine lv_iload_n (pc := 8) hx hb dX0_readsRing_8 rfl (lv_at hl 0 rfl) ?_
  refine lv_bipush (v := (-9 : Int32)) (pc := 9) hx hb dX0_readsRing_9 (by decide) ?_
  refine lv_icmp_eq (pc := 11) (tgt := 22) hx hb dX0_readsRing_11 (by decide) (fun c3 => ?_) (fun c3 => ?_)
  · have hd := if_t c3 hd
    refine lv_iconst (v := (0 : Int32)) (pc := 22) hx hb dX0_readsRing_22 (by decide) ?_
    exact g_zret (WX ct a (some t)) rfl hd S hr hlk hH dX0_readsRing_23
  · have hd := if_n c3 hd
    refine lv_aload_n (pc := 14) hx hb dX0_readsRing_14 rfl (lv_at hl 1 rfl) ?_
    refine xg_readRings (pc := 15) S hK hH dX0_readsRing_15 ?_
    refine lv_iconst (v := (5 : Int32)) (pc := 18) hx hb dX0_readsRing_18 (by decide) ?_
    refine lv_icmp_ne (pc := 19) (tgt := 24) hx hb dX0_readsRing_19 (by decide) (fun c4 => ?_) (fun c4 => ?_)
    · have hd := if_n c4 hd
      refine lv_aload_n (pc := 24) hx hb dX0_readsRing_24 rfl (lv_at hl 1 rfl) ?_
      refine lv_dup (pc := 25) hx hb dX0_readsRing_25 rfl ?_
      refine xg_readAt (pc := 26) S hK hH dX0_readsRing_26 ?_
      refine lv_iconst (v := (1 : Int32)) (pc := 29) hx hb dX0_readsRing_29 (by decide) ?_
      refine lv_iadd (pc := 30) hx hb dX0_readsRing_30 ?_
      obtain ⟨w5, ew5, hd⟩ := bs_let_spec hd
      refine lv_topE (pc := 31) ew5 ?_
      obtain ⟨s6, es6, hd⟩ := bs_let_spec hd
      refine xp_readAt (pc := 31) S hK hH dX0_readsRing_31 es6 (fun H locs hH => ?_)
      refine lv_aload_n (pc := 34) hx hb dX0_readsRing_34 rfl (lv_at hl 1 rfl) ?_
      obtain ⟨q7, hq7, hd⟩ := bs_bd hd
      refine call_X_readsCell (pc := 35) S hl hE hK hH q406 hq7 ⟨Nat.le_of_ble_eq_true rfl, Nat.le_of_ble_eq_true rfl⟩ (Nat.le_of_ble_eq_true rfl) dX0_readsRing_35 ⟨Nat.zero_le _, Nat.zero_le _⟩ (fun H locs hH => ?_)
      refine lv_istore_n (pc := 38) (lv' := [(2, .int q7.2), (1, .int v2), (0, .ref (ah a 0))]) hx hb dX0_readsRing_38 rfl hl (by decide) rfl (fun ls hl => ?_)
      refine lv_iload_n (pc := 39) hx hb dX0_readsRing_39 rfl (lv_at hl 0 rfl) ?_
      refine lv_bipush (v := (-9 : Int32)) (pc := 40) hx hb dX0_readsRing_40 (by decide) ?_
      refine lv_icmp_ne (pc := 42) (tgt := 50) hx hb dX0_readsRing_42 (by decide) (fun c8 => ?_) (fun c8 => ?_)
      · have hd := if_n c8 hd
        refine lv_aload_n (pc := 50) hx hb dX0_readsRing_50 rfl (lv_at hl 2 rfl) ?_
        obtain ⟨q9, hq9, hd⟩ := bs_bd hd
        refine call_X_readsFigure (pc := 51) S hl hE hK hH q410 hq9 ⟨Nat.le_of_ble_eq_true rfl, Nat.le_of_ble_eq_true rfl⟩ (Nat.le_of_ble_eq_true rfl) dX0_readsRing_51 ⟨Nat.zero_le _, Nat.zero_le _⟩ (fun H locs hH => ?_)
        exact h54 q9.1 v2 q7.2 q9.2 _ _ _ hH (lv_sub hl [2, 1, 0] rfl) hd
      · have hd := if_t c8 hd
        refine lv_bipush (v := (-9 : Int32)) (pc := 45) hx hb dX0_readsRing_45 (by decide) ?_
        refine lv_goto (pc := 47) (tgt := 54) hx hb dX0_readsRing_47 (by decide) ?_
        exact h54 q7.1 v2 q7.2 (-9 : Int32) _ _ _ hH (lv_sub hl [2, 1, 0] rfl) hd
    · have hd := if_t c4 hd
      refine lv_iconst (v := (0 : Int32)) (pc := 22) hx hb dX0_readsRing_22 (by decide) ?_
      exact g_zret (WX ct a (some t)) rfl hd S hr hlk hH dX0_readsRing_23
section CR_X_readsRing
variable {p : Program} {l : Launch} {e : Env} {R : Room} {s : State} {m : MethodId} {args : Array Value} {below : List Frame} {meth : Method} {c : Code} {H : Heap} {locs : List Loc} {cells slots : Nat} {Q : State → Prop}
variable {cc : ByteArray} {pc nL idx : Nat} {ls : Array Slot} {rest : List Value} {lv : List (Nat × Value)} {A : Nat → Prop} {H0 : Heap} {own : String}
theorem call_X_readsRing {D : va_G} {ct : Nat → ClassId} {a : XA} {st : XS} {t : Nat} {z : (XS × Int32)} (S : CallFix p m c cc nL s args lw_all own) (hl : lv_has ls nL lv) (hE : gEX s) (hK : va_K D clA (tysG ct) s) (hH : GH D A (xAs a) H0 (WX ct a (some t) st) H locs) (hlk : Cond.methodLink own idx yX0_readsRing ∈ lw_all) (hv : X_readsRing st t = some z) (hR : 4 ≤ R.frames ∧ 88 ≤ R.locals) (hsum : (rest.map fun v => v.category).sum ≤ 8) (hdg : decode cc pc = .ok (.invokevirtual idx, 3)) (hf : cells ≤ R.cells ∧ slots ≤ R.slots)
    (k : ∀ (H1 : Heap) (locs1 : List Loc), GH D A (xAs a) H0 (WX ct a (some t) z.1) H1 locs1 → W p l e R s m args below meth c H1 locs1 cells slots Q (F0 m (pc + 3) ls (.int z.2 :: rest))) : W p l e R s m args below meth c H locs cells slots Q (F0 m pc ls (.ref (ah a 0) :: rest)) :=
  g_calli (av := []) S hl gEX_ok hE hK hH (met_X_readsRing l D ct a H.size st t z hv) (lw_V hlk q416 qs9 q69 q417) rfl rfl ⟨rfl, by decide, by decide, by show (parseMethodDescriptor yX0_readsRing.desc).map (fun d => d.parameters.length) = some 0; decide +kernel⟩ hR (x_recv hK hH) (fun _ h => Or.inl h) rfl hsum hdg hf k
end CR_X_readsRing
/-! CapCouncil.readsBed ()Z -/
def X_readsBed_J41 (t : Nat) (st : XS) (x1 : Int32) (y0 : Int32) : Option (XS × Int32) :=
  if y0 = (-9 : Int32) then
    (some (st, (0 : Int32)))
  else
    ((xast st 4 12 ((2 : Int32) * (xi st 6)) x1).bind fun s8 =>
    (xast s8 4 12 (((2 : Int32) * (xi s8 6)) + (1 : Int32)) y0).bind fun s9 =>
    bs_let ((xi s9 6) + (1 : Int32)) fun w10 =>
    bs_let (sxi s9 6 w10) fun s11 =>
    some (s11, (1 : Int32)))
def X_readsBed (st : XS) (t : Nat) : Option (XS × Int32) :=
  if (xi st 6) = (6 : Int32) then
    (some (st, (0 : Int32)))
  else
    (bs_let ((xi st 4) + (1 : Int32)) fun w2 =>
    bs_let (sxi st 4 w2) fun s3 =>
    (X_readsCell s3 t).bind fun q4 =>
    if q4.2 = (-9 : Int32) then
      (X_readsBed_J41 t q4.1 q4.2 (-9 : Int32))
    else
      ((X_readsFigure q4.1 t).bind fun q6 =>
      X_readsBed_J41 t q6.1 q4.2 q6.2))
def rm_X_readsBed : Room := { frames := 3, cells := 0, slots := 0, locals := 65 }
set_option maxHeartbeats 4000000 in
set_option maxRecDepth 100000 in
theorem met_X_readsBed (l : Launch) (D : va_G) (ct : Nat → ClassId) (a : XA) (sz : Nat) (st : XS) (t : Nat) (z : (XS × Int32)) (hd : X_readsBed st t = some z) : Met l yX0_readsBed (ws_ yX0_readsBed cX0_readsBed 3 (some .boolean)) rm_X_readsBed (GPre gEX D ct (xAs a) (WX ct a (some t) st) sz [.ref (ah a 0)]) (GQi D (xAs a) (xAs a) (WX ct a (some t) z.1) sz z.2) 0 0 (gA (xAs a) sz) := by
  refine g_met (cc := cX0_readsBed) (maxL := 3) (ret := (some .boolean)) (by decide) (Nat.le_of_ble_eq_true rfl) ?_
  intro p e U m args below meth c ls S hr hlk hK hH hE hsz hl
  have S : CallFix p m c cX0_readsBed 3 U args lw_all RX0 := S
  have hx := S.1
  have hb := S.2.1
  have hl : lv_has ls 3 [(0, .ref (ah a 0))] := hl
  have h41 : ∀ (st : XS) (x1 : Int32) (y0 : Int32) (H : Heap) (locs : List Loc) (ls : Array Slot), GH D (gA (xAs a) sz) (xAs a) U.heap (WX ct a (some t) st) H locs → lv_has ls 3 [(0, .ref (ah a 0)), (1, .int x1)] → X_readsBed_J41 t st x1 y0 = some z → W p l e rm_X_readsBed U m args below meth c H locs 0 0 (MQ below (GQi D (xAs a) (xAs a) (WX ct a (some t) z.1) sz z.2) args U 0 0 (gA (xAs a) sz)) (F0 m 41 ls [.int y0]) := by
    intro st x1 y0 H locs ls hH hl hd
    unfold X_readsBed_J41 at hd
    refine lv_istore_n (pc := 41) (lv' := [(2, .int y0), (0, .ref (ah a 0)), (1, .int x1)]) hx hb dX0_readsBed_41 rfl hl (by decide) rfl (fun ls hl => ?_)
    refine lv_iload_n (pc := 42) hx hb dX0_readsBed_42 rfl (lv_at hl 0 rfl) ?_
    refine lv_bipush (v := (-9 : Int32)) (pc := 43) hx hb dX0_readsBed_43 (by decide) ?_
    refine lv_icmp_ne (pc := 45) (tgt := 50) hx hb dX0_readsBed_45 (by decide) (fun c7 => ?_) (fun c7 => ?_)
    · have hd := if_n c7 hd
      refine lv_aload_n (pc := 50) hx hb dX0_readsBed_50 rfl (lv_at hl 1 rfl) ?_
      refine xg_readBed (pc := 51) S hK hH dX0_readsBed_51 ?_
      refine lv_iconst (v := (2 : Int32)) (pc := 54) hx hb dX0_readsBed_54 (by decide) ?_
      refine lv_aload_n (pc := 55) hx hb dX0_readsBed_55 rfl (lv_at hl 1 rfl) ?_
      refine xg_readBeds (pc := 56) S hK hH dX0_readsBed_56 ?_
      refine lv_imul (pc := 59) hx hb dX0_readsBed_59 ?_
      refine lv_iload_n (pc := 60) hx hb dX0_readsBed_60 rfl (lv_at hl 2 rfl) ?_
      obtain ⟨s8, hs8, hd⟩ := bs_bd hd
      refine xs_readBed (pc := 61) S hK hH hs8 dX0_readsBed_61 (fun H locs hH => ?_)
      refine lv_aload_n (pc := 62) hx hb dX0_readsBed_62 rfl (lv_at hl 1 rfl) ?_
      refine xg_readBed (pc := 63) S hK hH dX0_readsBed_63 ?_
      refine lv_iconst (v := (2 : Int32)) (pc := 66) hx hb dX0_readsBed_66 (by decide) ?_
      refine lv_aload_n (pc := 67) hx hb dX0_readsBed_67 rfl (lv_at hl 1 rfl) ?_
      refine xg_readBeds (pc := 68) S hK hH dX0_readsBed_68 ?_
      refine lv_imul (pc := 71) hx hb dX0_readsBed_71 ?_
      refine lv_iconst (v := (1 : Int32)) (pc := 72) hx hb dX0_readsBed_72 (by decide) ?_
      refine lv_iadd (pc := 73) hx hb dX0_readsBed_73 ?_
      refine lv_iload_n (pc := 74) hx hb dX0_readsBed_74 rfl (lv_at hl 0 rfl) ?_
      obtain ⟨s9, hs9, hd⟩ := bs_bd hd
      refine xs_readBed (pc := 75) S hK hH hs9 dX0_readsBed_75 (fun H locs hH => ?_)
      refine lv_aload_n (pc := 76) hx hb dX0_readsBed_76 rfl (lv_at hl 1 rfl) ?_
      refine lv_dup (pc := 77) hx hb dX0_readsBed_77 rfl ?_
      refine xg_readBeds (pc := 78) S hK hH dX0_readsBed_78 ?_
      refine lv_iconst (v := (1 : Int32)) (pc := 81) hx hb dX0_readsBed_81 (by decide) ?_
      refine lv_iadd (pc := 82) hx hb dX0_readsBed_82 ?_
      obtain ⟨w10, ew10, hd⟩ := bs_let_spec hd
      refine lv_topE (pc := 83) ew10 ?_
      obtain ⟨s11, es11, hd⟩ := bs_let_spec hd
      refine xp_readBeds (pc := 83) S hK hH dX0_readsBed_83 es11 (fun H locs hH => ?_)
      refine lv_iconst (v := (1 : Int32)) (pc := 86) hx hb dX0_readsBed_86 (by decide) ?_
      exact g_zret (WX ct a (some t)) rfl hd S hr hlk hH dX0_readsBed_87
    · have hd := if_t c7 hd
      refine lv_iconst (v := (0 : Int32)) (pc := 48) hx hb dX0_readsBed_48 (by decide) ?_
      exact g_zret (WX ct a (some t)) rfl hd S hr hlk hH dX0_readsBed_49
  unfold X_readsBed at hd
  refine lv_aload_n (pc := 0) hx hb dX0_readsBed_0 rfl (lv_at hl 0 rfl) ?_
  refine xg_readBeds (pc := 1) S hK hH dX0_readsBed_1 ?_
  refine lv_bipush (v := (6 : Int32)) (pc := 4) hx hb dX0_readsBed_4 (by decide) ?_
  refine lv_icmp_ne (pc := 6) (tgt := 11) hx hb dX0_readsBed_6 (by decide) (fun c1 => ?_) (fun c1 => ?_)
  · have hd := if_n c1 hd
    refine lv_aload_n (pc := 11) hx hb dX0_readsBed_11 rfl (lv_at hl 0 rfl) ?_
    refine lv_dup (pc := 12) hx hb dX0_readsBed_12 rfl ?_
    refine xg_readAt (pc := 13) S hK hH dX0_readsBed_13 ?_
    refine lv_iconst (v := (1 : Int32)) (pc := 16) hx hb dX0_readsBed_16 (by decide) ?_
    refine lv_iadd (pc := 17) hx hb dX0_readsBed_17 ?_
    obtain ⟨w2, ew2, hd⟩ := bs_let_spec hd
    refine lv_topE (pc := 18) ew2 ?_
    obtain ⟨s3, es3, hd⟩ := bs_let_spec hd
    refine xp_readAt (pc := 18) S hK hH dX0_readsBed_18 es3 (fun H locs hH => ?_)
    refine lv_aload_n (pc := 21) hx hb dX0_readsBed_21 rfl (lv_at hl 0 rfl) ?_
    obtain ⟨q4, hq4, hd⟩ := bs_bd hd
    refine call_X_readsCell (pc := 22) S hl hE hK hH q406 hq4 ⟨Nat.le_of_ble_eq_true rfl, Nat.le_of_ble_eq_true rfl⟩ (Nat.le_of_ble_eq_true rfl) dX0_readsBed_22 ⟨Nat.zero_le _, Nat.zero_le _⟩ (fun H locs hH => ?_)
    refine lv_istore_n (pc := 25) (lv' := [(1, .int q4.2), (0, .ref (ah a 0))]) hx hb dX0_readsBed_25 rfl hl (by decide) rfl (fun ls hl => ?_)
    refine lv_iload_n (pc := 26) hx hb dX0_readsBed_26 rfl (lv_at hl 0 rfl) ?_
    refine lv_bipush (v := (-9 : Int32)) (pc := 27) hx hb dX0_readsBed_27 (by decide) ?_
    refine lv_icmp_ne (pc := 29) (tgt := 37) hx hb dX0_readsBed_29 (by decide) (fun c5 => ?_) (fun c5 => ?_)
    · have hd := if_n c5 hd
      refine lv_aload_n (pc := 37) hx hb dX0_readsBed_37 rfl (lv_at hl 1 rfl) ?_
      obtain ⟨q6, hq6, hd⟩ := bs_bd hd
      refine call_X_readsFigure (pc := 38) S hl hE hK hH q410 hq6 ⟨Nat.le_of_ble_eq_true rfl, Nat.le_of_ble_eq_true rfl⟩ (Nat.le_of_ble_eq_true rfl) dX0_readsBed_38 ⟨Nat.zero_le _, Nat.zero_le _⟩ (fun H locs hH => ?_)
      exact h41 q6.1 q4.2 q6.2 _ _ _ hH (lv_sub hl [1, 0] rfl) hd
    · have hd := if_t c5 hd
      refine lv_bipush (v := (-9 : Int32)) (pc := 32) hx hb dX0_readsBed_32 (by decide) ?_
      refine lv_goto (pc := 34) (tgt := 41) hx hb dX0_readsBed_34 (by decide) ?_
      exact h41 q4.1 q4.2 (-9 : Int32) _ _ _ hH (lv_sub hl [1, 0] rfl) hd
  · have hd := if_t c1 hd
    refine lv_iconst (v := (0 : Int32)) (pc := 9) hx hb dX0_readsBed_9 (by decide) ?_
    exact g_zret (WX ct a (some t)) rfl hd S hr hlk hH dX0_readsBed_10
section CR_X_readsBed
variable {p : Program} {l : Launch} {e : Env} {R : Room} {s : State} {m : MethodId} {args : Array Value} {below : List Frame} {meth : Method} {c : Code} {H : Heap} {locs : List Loc} {cells slots : Nat} {Q : State → Prop}
variable {cc : ByteArray} {pc nL idx : Nat} {ls : Array Slot} {rest : List Value} {lv : List (Nat × Value)} {A : Nat → Prop} {H0 : Heap} {own : String}
theorem call_X_readsBed {D : va_G} {ct : Nat → ClassId} {a : XA} {st : XS} {t : Nat} {z : (XS × Int32)} (S : CallFix p m c cc nL s args lw_all own) (hl : lv_has ls nL lv) (hE : gEX s) (hK : va_K D clA (tysG ct) s) (hH : GH D A (xAs a) H0 (WX ct a (some t) st) H locs) (hlk : Cond.methodLink own idx yX0_readsBed ∈ lw_all) (hv : X_readsBed st t = some z) (hR : 4 ≤ R.frames ∧ 87 ≤ R.locals) (hsum : (rest.map fun v => v.category).sum ≤ 8) (hdg : decode cc pc = .ok (.invokevirtual idx, 3)) (hf : cells ≤ R.cells ∧ slots ≤ R.slots)
    (k : ∀ (H1 : Heap) (locs1 : List Loc), GH D A (xAs a) H0 (WX ct a (some t) z.1) H1 locs1 → W p l e R s m args below meth c H1 locs1 cells slots Q (F0 m (pc + 3) ls (.int z.2 :: rest))) : W p l e R s m args below meth c H locs cells slots Q (F0 m pc ls (.ref (ah a 0) :: rest)) :=
  g_calli (av := []) S hl gEX_ok hE hK hH (met_X_readsBed l D ct a H.size st t z hv) (lw_V hlk q404 qs6 q69 q405) rfl rfl ⟨rfl, by decide, by decide, by show (parseMethodDescriptor yX0_readsBed.desc).map (fun d => d.parameters.length) = some 0; decide +kernel⟩ hR (x_recv hK hH) (fun _ h => Or.inl h) rfl hsum hdg hf k
end CR_X_readsBed
/-! CapCouncil.goesOn ([B)I -/
def X_goesOn_L20 (k82 : XS → Option (XS × Int32)) (j1 : Nat) : Nat → XS → Option (XS × Int32)
  | 0, _ => none
  | n + 1, st =>
    (xrn st (6 + j1)).bind fun v5 =>
    if v5 ≤ (xi st 4) then
      (k82 st)
    else
      ((X_sign st j1).bind fun v7 =>
      if v7 = (32 : Int32) then
        (bs_let ((xi st 4) + (1 : Int32)) fun w15 =>
        bs_let (sxi st 4 w15) fun s16 =>
        X_goesOn_L20 k82 j1 n s16)
      else
        ((X_sign st j1).bind fun v9 =>
        if v9 = (98 : Int32) then
          ((X_readsBed st j1).bind fun q13 =>
          if q13.2 = 0 then
            (some (q13.1, (xi q13.1 4)))
          else
            (X_goesOn_L20 k82 j1 n q13.1))
        else
          ((X_readsRing st j1).bind fun q11 =>
          if q11.2 = 0 then
            (some (q11.1, (xi q11.1 4)))
          else
            (X_goesOn_L20 k82 j1 n q11.1))))
def X_goesOn_J82 (j1 : Nat) (st : XS) : Option (XS × Int32) :=
  if (xi st 5) = 0 then
    ((xrn st (6 + j1)).bind fun v18 =>
    some (st, v18))
  else
    (if (xi st 6) = 0 then
      ((xrn st (6 + j1)).bind fun v20 =>
      some (st, v20))
    else
      (some (st, (-9 : Int32))))
def X_goesOn (st : XS) (rv : Value) (j1 : Nat) : Option (XS × Int32) :=
  bs_let (sxv st rv) fun s1 =>
  bs_let (sxi s1 4 (0 : Int32)) fun s2 =>
  bs_let (sxi s2 5 (0 : Int32)) fun s3 =>
  bs_let (sxi s3 6 (0 : Int32)) fun s4 =>
  X_goesOn_L20 (X_goesOn_J82 j1) j1 bs_fu s4
def rm_X_goesOn : Room := { frames := 4, cells := 0, slots := 0, locals := 88 }
set_option maxHeartbeats 4000000 in
set_option maxRecDepth 100000 in
theorem met_X_goesOn (l : Launch) (D : va_G) (ct : Nat → ClassId) (a : XA) (ρ : Option Nat) (sz : Nat) (st : XS) (rv : Value) (j1 : Nat) (hj1 : j1 < 4) (hrv : rv = va_rf (ar a (6 + j1))) (z : (XS × Int32)) (hd : X_goesOn st rv j1 = some z) : Met l yX0_goesOn (ws_ yX0_goesOn cX0_goesOn 2 (some .int)) rm_X_goesOn (GPre gEX D ct (xAs a) (WX ct a ρ st) sz [.ref (ah a 0), va_rf (ar a (6 + j1))]) (GQi D (xAs a) (xAs a) (WX ct a (some j1) z.1) sz z.2) 0 0 (gA (xAs a) sz) := by
  refine g_met (cc := cX0_goesOn) (maxL := 2) (ret := (some .int)) (by decide) (by simp [lg_sl, va_rf_cat, vc_int, vc_ref, vc_long]) ?_
  intro p e U m args below meth c ls S hr hlk hK hH hE hsz hl
  have S : CallFix p m c cX0_goesOn 2 U args lw_all RX0 := S
  have hx := S.1
  have hb := S.2.1
  have hl : lv_has ls 2 [(0, .ref (ah a 0)), (1, va_rf (ar a (6 + j1)))] := (by simpa [lv_args, va_rf_cat, vc_int, vc_ref, vc_long] using hl)
  have h82 : ∀ (st : XS) (H : Heap) (locs : List Loc) (ls : Array Slot), GH D (gA (xAs a) sz) (xAs a) U.heap (WX ct a (some j1) st) H locs → lv_has ls 2 [(0, .ref (ah a 0)), (1, va_rf (ar a (6 + j1)))] → X_goesOn_J82 j1 st = some z → W p l e rm_X_goesOn U m args below meth c H locs 0 0 (MQ below (GQi D (xAs a) (xAs a) (WX ct a (some j1) z.1) sz z.2) args U 0 0 (gA (xAs a) sz)) (F0 m 82 ls []) := by
    intro st H locs ls hH hl hd
    unfold X_goesOn_J82 at hd
    refine lv_aload_n (pc := 82) hx hb dX0_goesOn_82 rfl (lv_at hl 0 rfl) ?_
    refine xg_readRings (pc := 83) S hK hH dX0_goesOn_83 ?_
    refine lv_if_eq (pc := 86) (tgt := 96) hx hb dX0_goesOn_86 (by decide) (fun c17 => ?_) (fun c17 => ?_)
    · have hd := if_t c17 hd
      refine lv_aload_nO (pc := 96) hx hb dX0_goesOn_96 rfl (lv_at hl 1 rfl) ?_
      obtain ⟨v18, hv18, hd⟩ := bs_bd hd
      refine xr_len (pc := 97) (j := (6 + j1)) S hK hH (Nat.add_lt_add_left hj1 6) hv18 dX0_goesOn_97 ?_
      refine lv_goto (pc := 98) (tgt := 103) hx hb dX0_goesOn_98 (by decide) ?_
      exact g_iret (WX ct a (some j1)) hd S hr hlk hH dX0_goesOn_103
    · have hd := if_n c17 hd
      refine lv_aload_n (pc := 89) hx hb dX0_goesOn_89 rfl (lv_at hl 0 rfl) ?_
      refine xg_readBeds (pc := 90) S hK hH dX0_goesOn_90 ?_
      refine lv_if_ne (pc := 93) (tgt := 101) hx hb dX0_goesOn_93 (by decide) (fun c19 => ?_) (fun c19 => ?_)
      · have hd := if_n c19 hd
        refine lv_bipush (v := (-9 : Int32)) (pc := 101) hx hb dX0_goesOn_101 (by decide) ?_
        exact g_iret (WX ct a (some j1)) hd S hr hlk hH dX0_goesOn_103
      · have hd := if_t c19 hd
        refine lv_aload_nO (pc := 96) hx hb dX0_goesOn_96 rfl (lv_at hl 1 rfl) ?_
        obtain ⟨v20, hv20, hd⟩ := bs_bd hd
        refine xr_len (pc := 97) (j := (6 + j1)) S hK hH (Nat.add_lt_add_left hj1 6) hv20 dX0_goesOn_97 ?_
        refine lv_goto (pc := 98) (tgt := 103) hx hb dX0_goesOn_98 (by decide) ?_
        exact g_iret (WX ct a (some j1)) hd S hr hlk hH dX0_goesOn_103
  have h20 : ∀ (n20 : Nat) (st : XS) (H : Heap) (locs : List Loc) (ls : Array Slot), GH D (gA (xAs a) sz) (xAs a) U.heap (WX ct a (some j1) st) H locs → lv_has ls 2 [(0, .ref (ah a 0)), (1, va_rf (ar a (6 + j1)))] → X_goesOn_L20 (X_goesOn_J82 j1) j1 n20 st = some z → W p l e rm_X_goesOn U m args below meth c H locs 0 0 (MQ below (GQi D (xAs a) (xAs a) (WX ct a (some j1) z.1) sz z.2) args U 0 0 (gA (xAs a) sz)) (F0 m 20 ls []) := by
    intro n20
    induction n20 with
    | zero =>
      intro st H locs ls hH hl hd
      rw [X_goesOn_L20] at hd
      cases hd
    | succ n20 ih20 =>
      intro st H locs ls hH hl hd
      rw [X_goesOn_L20] at hd
      refine lv_aload_n (pc := 20) hx hb dX0_goesOn_20 rfl (lv_at hl 0 rfl) ?_
      refine xg_readAt (pc := 21) S hK hH dX0_goesOn_21 ?_
      refine lv_aload_nO (pc := 24) hx hb dX0_goesOn_24 rfl (lv_at hl 1 rfl) ?_
      obtain ⟨v5, hv5, hd⟩ := bs_bd hd
      refine xr_len (pc := 25) (j := (6 + j1)) S hK hH (Nat.add_lt_add_left hj1 6) hv5 dX0_goesOn_25 ?_
      refine lv_icmp_ge (pc := 26) (tgt := 82) hx hb dX0_goesOn_26 (by decide) (fun c6 => ?_) (fun c6 => ?_)
      · have hd := if_t c6 hd
        exact h82 st _ _ _ hH (lv_sub hl [0, 1] rfl) hd
      · have hd := if_n c6 hd
        refine lv_aload_n (pc := 29) hx hb dX0_goesOn_29 rfl (lv_at hl 0 rfl) ?_
        obtain ⟨v7, hv7, hd⟩ := bs_bd hd
        refine call_X_sign (pc := 30) S hl hE hK hH q398 hv7 ⟨Nat.le_of_ble_eq_true rfl, Nat.le_of_ble_eq_true rfl⟩ (Nat.le_of_ble_eq_true rfl) dX0_goesOn_30 ⟨Nat.zero_le _, Nat.zero_le _⟩ ?_
        refine lv_bipush (v := (32 : Int32)) (pc := 33) hx hb dX0_goesOn_33 (by decide) ?_
        refine lv_icmp_ne (pc := 35) (tgt := 51) hx hb dX0_goesOn_35 (by decide) (fun c8 => ?_) (fun c8 => ?_)
        · have hd := if_n c8 hd
          refine lv_aload_n (pc := 51) hx hb dX0_goesOn_51 rfl (lv_at hl 0 rfl) ?_
          obtain ⟨v9, hv9, hd⟩ := bs_bd hd
          refine call_X_sign (pc := 52) S hl hE hK hH q398 hv9 ⟨Nat.le_of_ble_eq_true rfl, Nat.le_of_ble_eq_true rfl⟩ (Nat.le_of_ble_eq_true rfl) dX0_goesOn_52 ⟨Nat.zero_le _, Nat.zero_le _⟩ ?_
          refine lv_bipush (v := (98 : Int32)) (pc := 55) hx hb dX0_goesOn_55 (by decide) ?_
          refine lv_icmp_ne (pc := 57) (tgt := 70) hx hb dX0_goesOn_57 (by decide) (fun c10 => ?_) (fun c10 => ?_)
          · have hd := if_n c10 hd
            refine lv_aload_n (pc := 70) hx hb dX0_goesOn_70 rfl (lv_at hl 0 rfl) ?_
            obtain ⟨q11, hq11, hd⟩ := bs_bd hd
            refine call_X_readsRing (pc := 71) S hl hE hK hH q414 hq11 ⟨Nat.le_of_ble_eq_true rfl, Nat.le_of_ble_eq_true rfl⟩ (Nat.le_of_ble_eq_true rfl) dX0_goesOn_71 ⟨Nat.zero_le _, Nat.zero_le _⟩ (fun H locs hH => ?_)
            refine lv_if_ne (pc := 74) (tgt := 20) hx hb dX0_goesOn_74 (by decide) (fun c12 => ?_) (fun c12 => ?_)
            · have hd := if_n c12 hd
              exact ih20 q11.1 _ _ _ hH (lv_sub hl [0, 1] rfl) hd
            · have hd := if_t c12 hd
              refine lv_aload_n (pc := 77) hx hb dX0_goesOn_77 rfl (lv_at hl 0 rfl) ?_
              refine xg_readAt (pc := 78) S hK hH dX0_goesOn_78 ?_
              exact g_iret (WX ct a (some j1)) hd S hr hlk hH dX0_goesOn_81
          · have hd := if_t c10 hd
            refine lv_aload_n (pc := 60) hx hb dX0_goesOn_60 rfl (lv_at hl 0 rfl) ?_
            obtain ⟨q13, hq13, hd⟩ := bs_bd hd
            refine call_X_readsBed (pc := 61) S hl hE hK hH q402 hq13 ⟨Nat.le_of_ble_eq_true rfl, Nat.le_of_ble_eq_true rfl⟩ (Nat.le_of_ble_eq_true rfl) dX0_goesOn_61 ⟨Nat.zero_le _, Nat.zero_le _⟩ (fun H locs hH => ?_)
            refine lv_if_ne (pc := 64) (tgt := 20) hx hb dX0_goesOn_64 (by decide) (fun c14 => ?_) (fun c14 => ?_)
            · have hd := if_n c14 hd
              exact ih20 q13.1 _ _ _ hH (lv_sub hl [0, 1] rfl) hd
            · have hd := if_t c14 hd
              refine lv_goto (pc := 67) (tgt := 77) hx hb dX0_goesOn_67 (by decide) ?_
              refine lv_aload_n (pc := 77) hx hb dX0_goesOn_77 rfl (lv_at hl 0 rfl) ?_
              refine xg_readAt (pc := 78) S hK hH dX0_goesOn_78 ?_
              exact g_iret (WX ct a (some j1)) hd S hr hlk hH dX0_goesOn_81
        · have hd := if_t c8 hd
          refine lv_aload_n (pc := 38) hx hb dX0_goesOn_38 rfl (lv_at hl 0 rfl) ?_
          refine lv_dup (pc := 39) hx hb dX0_goesOn_39 rfl ?_
          refine xg_readAt (pc := 40) S hK hH dX0_goesOn_40 ?_
          refine lv_iconst (v := (1 : Int32)) (pc := 43) hx hb dX0_goesOn_43 (by decide) ?_
          refine lv_iadd (pc := 44) hx hb dX0_goesOn_44 ?_
          obtain ⟨w15, ew15, hd⟩ := bs_let_spec hd
          refine lv_topE (pc := 45) ew15 ?_
          obtain ⟨s16, es16, hd⟩ := bs_let_spec hd
          refine xp_readAt (pc := 45) S hK hH dX0_goesOn_45 es16 (fun H locs hH => ?_)
          refine lv_goto (pc := 48) (tgt := 20) hx hb dX0_goesOn_48 (by decide) ?_
          exact ih20 s16 _ _ _ hH (lv_sub hl [0, 1] rfl) hd
  unfold X_goesOn at hd
  refine lv_aload_n (pc := 0) hx hb dX0_goesOn_0 rfl (lv_at hl 0 rfl) ?_
  refine lv_aload_nO (pc := 1) hx hb dX0_goesOn_1 rfl (lv_at hl 1 rfl) ?_
  obtain ⟨s1, es1, hd⟩ := bs_let_spec hd
  refine xp_reading (pc := 2) S hK hH hj1 hrv dX0_goesOn_2 es1 (fun H locs hH => ?_)
  refine lv_aload_n (pc := 5) hx hb dX0_goesOn_5 rfl (lv_at hl 0 rfl) ?_
  refine lv_iconst (v := (0 : Int32)) (pc := 6) hx hb dX0_goesOn_6 (by decide) ?_
  obtain ⟨s2, es2, hd⟩ := bs_let_spec hd
  refine xp_readAt (pc := 7) S hK hH dX0_goesOn_7 es2 (fun H locs hH => ?_)
  refine lv_aload_n (pc := 10) hx hb dX0_goesOn_10 rfl (lv_at hl 0 rfl) ?_
  refine lv_iconst (v := (0 : Int32)) (pc := 11) hx hb dX0_goesOn_11 (by decide) ?_
  obtain ⟨s3, es3, hd⟩ := bs_let_spec hd
  refine xp_readRings (pc := 12) S hK hH dX0_goesOn_12 es3 (fun H locs hH => ?_)
  refine lv_aload_n (pc := 15) hx hb dX0_goesOn_15 rfl (lv_at hl 0 rfl) ?_
  refine lv_iconst (v := (0 : Int32)) (pc := 16) hx hb dX0_goesOn_16 (by decide) ?_
  obtain ⟨s4, es4, hd⟩ := bs_let_spec hd
  refine xp_readBeds (pc := 17) S hK hH dX0_goesOn_17 es4 (fun H locs hH => ?_)
  exact h20 bs_fu s4 _ _ _ hH (lv_sub hl [0, 1] rfl) hd
section CR_X_goesOn
variable {p : Program} {l : Launch} {e : Env} {R : Room} {s : State} {m : MethodId} {args : Array Value} {below : List Frame} {meth : Method} {c : Code} {H : Heap} {locs : List Loc} {cells slots : Nat} {Q : State → Prop}
variable {cc : ByteArray} {pc nL idx : Nat} {ls : Array Slot} {rest : List Value} {lv : List (Nat × Value)} {A : Nat → Prop} {H0 : Heap} {own : String}
theorem call_X_goesOn {D : va_G} {ct : Nat → ClassId} {a : XA} {ρ : Option Nat} {st : XS} {rv : Value} {j1 : Nat} {z : (XS × Int32)} (S : CallFix p m c cc nL s args lw_all own) (hl : lv_has ls nL lv) (hE : gEX s) (hK : va_K D clA (tysG ct) s) (hH : GH D A (xAs a) H0 (WX ct a ρ st) H locs) (hlk : Cond.methodLink own idx yX0_goesOn ∈ lw_all) (hv : X_goesOn st rv j1 = some z) (hj1 : j1 < 4) (hrv : rv = va_rf (ar a (6 + j1))) (hR : 5 ≤ R.frames ∧ 109 ≤ R.locals) (hsum : (rest.map fun v => v.category).sum ≤ 8) (hdg : decode cc pc = .ok (.invokevirtual idx, 3)) (hf : cells ≤ R.cells ∧ slots ≤ R.slots)
    (k : ∀ (H1 : Heap) (locs1 : List Loc), GH D A (xAs a) H0 (WX ct a (some j1) z.1) H1 locs1 → W p l e R s m args below meth c H1 locs1 cells slots Q (F0 m (pc + 3) ls (.int z.2 :: rest))) : W p l e R s m args below meth c H locs cells slots Q (F0 m pc ls (va_rf (ar a (6 + j1)) :: .ref (ah a 0) :: rest)) :=
  g_calli (av := [va_rf (ar a (6 + j1))]) S hl gEX_ok hE hK hH (met_X_goesOn l D ct a ρ H.size st rv j1 hj1 hrv z hv) (lw_V hlk q396 qs4 q69 q397) rfl rfl ⟨rfl, by decide, by decide, by show (parseMethodDescriptor yX0_goesOn.desc).map (fun d => d.parameters.length) = some 1; decide +kernel⟩ hR (x_recv hK hH) (fun _ h => Or.inl h) rfl hsum hdg hf k
end CR_X_goesOn
/-! CapCouncil.fault (I)I -/
def X_fault (st : XS) (rvf : Nat → Value) (a1 : Int32) : Option (XS × Int32) :=
  (X_isText a1).bind fun v1 =>
  if v1 = 0 then
    (some (st, (-1 : Int32)))
  else
    ((bs_ix 4 a1).bind fun v3 =>
    if (xr st (6 + v3)).isSome = true then
      ((bs_ix 4 a1).bind fun v5 =>
      (X_goesOn st (rvf v5) v5).bind fun q6 =>
      some (q6.1, q6.2))
    else
      ((X_found st (1 : Int32)).bind fun q7 =>
      some (q7.1, q7.2)))
def rm_X_fault : Room := { frames := 5, cells := 0, slots := 0, locals := 109 }
set_option maxHeartbeats 4000000 in
set_option maxRecDepth 100000 in
theorem met_X_fault (l : Launch) (D : va_G) (ct : Nat → ClassId) (a : XA) (sz : Nat) (st : XS) (rvf : Nat → Value) (a1 : Int32) (hrv : ∀ j, rvf j = va_rf (ar a (6 + j))) (z : (XS × Int32)) (hd : X_fault st rvf a1 = some z) : Met l yX0_fault (ws_ yX0_fault cX0_fault 2 (some .int)) rm_X_fault (GPre gEX D ct (xAs a) (WX ct a none st) sz [.ref (ah a 0), .int a1]) (GQi D (xAs a) (xAs a) (WX ct a none z.1) sz z.2) 0 0 (gA (xAs a) sz) := by
  refine g_met (cc := cX0_fault) (maxL := 2) (ret := (some .int)) (by decide) (Nat.le_of_ble_eq_true rfl) ?_
  intro p e U m args below meth c ls S hr hlk hK hH hE hsz hl
  have S : CallFix p m c cX0_fault 2 U args lw_all RX0 := S
  have hx := S.1
  have hb := S.2.1
  have hl : lv_has ls 2 [(0, .ref (ah a 0)), (1, .int a1)] := hl
  unfold X_fault at hd
  refine lv_iload_n (pc := 0) hx hb dX0_fault_0 rfl (lv_at hl 1 rfl) ?_
  obtain ⟨v1, hv1, hd⟩ := bs_bd hd
  refine call_X_isText (pc := 1) S hl q383 hv1 ⟨Nat.le_of_ble_eq_true rfl, Nat.le_of_ble_eq_true rfl⟩ (Nat.le_of_ble_eq_true rfl) dX0_fault_1 ⟨Nat.zero_le _, Nat.zero_le _⟩ ?_
  refine lv_if_ne (pc := 4) (tgt := 9) hx hb dX0_fault_4 (by decide) (fun c2 => ?_) (fun c2 => ?_)
  · have hd := if_n c2 hd
    refine lv_aload_n (pc := 9) hx hb dX0_fault_9 rfl (lv_at hl 0 rfl) ?_
    refine xg_texts (pc := 10) S hK hH dX0_fault_10 ?_
    refine lv_iload_n (pc := 13) hx hb dX0_fault_13 rfl (lv_at hl 1 rfl) ?_
    obtain ⟨v3, hv3, hd⟩ := bs_bd hd
    refine xq_texts (pc := 14) S hK hH hv3 dX0_fault_14 ?_
    refine lv_ifnonnullO (pc := 15) (tgt := 26) hx hb dX0_fault_15 (by decide) (fun c4 => ?_) (fun c4 => ?_)
    · have hd := if_t ((xo_r hH (Nat.add_lt_add_left (bs_ix_lt hv3) 6)).symm.trans c4) hd
      refine lv_aload_n (pc := 26) hx hb dX0_fault_26 rfl (lv_at hl 0 rfl) ?_
      refine lv_aload_n (pc := 27) hx hb dX0_fault_27 rfl (lv_at hl 0 rfl) ?_
      refine xg_texts (pc := 28) S hK hH dX0_fault_28 ?_
      refine lv_iload_n (pc := 31) hx hb dX0_fault_31 rfl (lv_at hl 1 rfl) ?_
      obtain ⟨v5, hv5, hd⟩ := bs_bd hd
      refine xq_texts (pc := 32) S hK hH hv5 dX0_fault_32 ?_
      obtain ⟨q6, hq6, hd⟩ := bs_bd hd
      refine call_X_goesOn (pc := 33) S hl hE hK hH q394 hq6 (bs_ix_lt hv5) (hrv v5) ⟨Nat.le_of_ble_eq_true rfl, Nat.le_of_ble_eq_true rfl⟩ (Nat.le_of_ble_eq_true rfl) dX0_fault_33 ⟨Nat.zero_le _, Nat.zero_le _⟩ (fun H locs hH => ?_)
      have hH := x_still hH
      exact g_iret (WX ct a none) hd S hr hlk hH dX0_fault_36
    · have hd := if_n (fun h9 => c4 ((xo_r hH (Nat.add_lt_add_left (bs_ix_lt hv3) 6)).trans h9)) hd
      refine lv_aload_n (pc := 18) hx hb dX0_fault_18 rfl (lv_at hl 0 rfl) ?_
      refine lv_iconst (v := (1 : Int32)) (pc := 19) hx hb dX0_fault_19 (by decide) ?_
      obtain ⟨q7, hq7, hd⟩ := bs_bd hd
      refine call_X_found (pc := 20) S hl hE hK hH q288 hq7 ⟨Nat.le_of_ble_eq_true rfl, Nat.le_of_ble_eq_true rfl⟩ (Nat.le_of_ble_eq_true rfl) dX0_fault_20 ⟨Nat.zero_le _, Nat.zero_le _⟩ (fun H locs hH => ?_)
      refine lv_goto (pc := 23) (tgt := 36) hx hb dX0_fault_23 (by decide) ?_
      exact g_iret (WX ct a none) hd S hr hlk hH dX0_fault_36
  · have hd := if_t c2 hd
    refine lv_iconst (v := (-1 : Int32)) (pc := 7) hx hb dX0_fault_7 (by decide) ?_
    exact g_iret (WX ct a none) hd S hr hlk hH dX0_fault_8
section CR_X_fault
variable {p : Program} {l : Launch} {e : Env} {R : Room} {s : State} {m : MethodId} {args : Array Value} {below : List Frame} {meth : Method} {c : Code} {H : Heap} {locs : List Loc} {cells slots : Nat} {Q : State → Prop}
variable {cc : ByteArray} {pc nL idx : Nat} {ls : Array Slot} {rest : List Value} {lv : List (Nat × Value)} {A : Nat → Prop} {H0 : Heap} {own : String}
theorem call_X_fault {D : va_G} {ct : Nat → ClassId} {a : XA} {st : XS} {rvf : Nat → Value} {a1 : Int32} {z : (XS × Int32)} (S : CallFix p m c cc nL s args lw_all own) (hl : lv_has ls nL lv) (hE : gEX s) (hK : va_K D clA (tysG ct) s) (hH : GH D A (xAs a) H0 (WX ct a none st) H locs) (hlk : Cond.methodLink own idx yX0_fault ∈ lw_all) (hv : X_fault st rvf a1 = some z) (hrv : ∀ j, rvf j = va_rf (ar a (6 + j))) (hR : 6 ≤ R.frames ∧ 130 ≤ R.locals) (hsum : (rest.map fun v => v.category).sum ≤ 8) (hdg : decode cc pc = .ok (.invokevirtual idx, 3)) (hf : cells ≤ R.cells ∧ slots ≤ R.slots)
    (k : ∀ (H1 : Heap) (locs1 : List Loc), GH D A (xAs a) H0 (WX ct a none z.1) H1 locs1 → W p l e R s m args below meth c H1 locs1 cells slots Q (F0 m (pc + 3) ls (.int z.2 :: rest))) : W p l e R s m args below meth c H locs cells slots Q (F0 m pc ls (.int a1 :: .ref (ah a 0) :: rest)) :=
  g_calli (av := [.int a1]) S hl gEX_ok hE hK hH (met_X_fault l D ct a H.size st rvf a1 hrv z hv) (lw_V hlk q391 q392 q69 q393) rfl rfl ⟨rfl, by decide, by decide, by show (parseMethodDescriptor yX0_fault.desc).map (fun d => d.parameters.length) = some 1; decide +kernel⟩ hR (x_recv hK hH) (fun _ h => Or.inl h) rfl hsum hdg hf k
end CR_X_fault
/-! CapCouncil.isRing (I)Z -/
def X_isRing (st : XS) (a1 : Int32) : Option Int32 :=
  (X_isIn a1 (0 : Int32) ((xi st 2) - (1 : Int32))).bind fun v1 =>
  bs_gb v1 (some v1)
def rm_X_isRing : Room := { frames := 1, cells := 0, slots := 0, locals := 22 }
set_option maxHeartbeats 4000000 in
set_option maxRecDepth 100000 in
theorem met_X_isRing (l : Launch) (D : va_G) (ct : Nat → ClassId) (a : XA) (ρ : Option Nat) (sz : Nat) (st : XS) (a1 : Int32) (z : Int32) (hd : X_isRing st a1 = some z) : Met l yX0_isRing (ws_ yX0_isRing cX0_isRing 2 (some .boolean)) rm_X_isRing (GPre gEX D ct (xAs a) (WX ct a ρ st) sz [.ref (ah a 0), .int a1]) (vp_Si (fun r => r = z)) 0 0 (fun _ => False) := by
  refine g_met (cc := cX0_isRing) (maxL := 2) (ret := (some .boolean)) (by decide) (Nat.le_of_ble_eq_true rfl) ?_
  intro p e U m args below meth c ls S hr hlk hK hH hE hsz hl
  have S : CallFix p m c cX0_isRing 2 U args lw_all RX0 := S
  have hx := S.1
  have hb := S.2.1
  have hl : lv_has ls 2 [(0, .ref (ah a 0)), (1, .int a1)] := hl
  unfold X_isRing at hd
  refine lv_iload_n (pc := 0) hx hb dX0_isRing_0 rfl (lv_at hl 1 rfl) ?_
  refine lv_iconst (v := (0 : Int32)) (pc := 1) hx hb dX0_isRing_1 (by decide) ?_
  refine lv_aload_n (pc := 2) hx hb dX0_isRing_2 rfl (lv_at hl 0 rfl) ?_
  refine xg_ringMany (pc := 3) S hK hH dX0_isRing_3 ?_
  refine lv_iconst (v := (1 : Int32)) (pc := 6) hx hb dX0_isRing_6 (by decide) ?_
  refine lv_isub (pc := 7) hx hb dX0_isRing_7 ?_
  obtain ⟨v1, hv1, hd⟩ := bs_bd hd
  refine call_X_isIn (pc := 8) S hl q285 hv1 ⟨Nat.le_of_ble_eq_true rfl, Nat.le_of_ble_eq_true rfl⟩ (Nat.le_of_ble_eq_true rfl) dX0_isRing_8 ⟨Nat.zero_le _, Nat.zero_le _⟩ ?_
  obtain ⟨hn2, hd⟩ := bs_gb_spec hd
  exact r_zret hn2 hd S hr hlk dX0_isRing_11
section CR_X_isRing
variable {p : Program} {l : Launch} {e : Env} {R : Room} {s : State} {m : MethodId} {args : Array Value} {below : List Frame} {meth : Method} {c : Code} {H : Heap} {locs : List Loc} {cells slots : Nat} {Q : State → Prop}
variable {cc : ByteArray} {pc nL idx : Nat} {ls : Array Slot} {rest : List Value} {lv : List (Nat × Value)} {A : Nat → Prop} {H0 : Heap} {own : String}
theorem call_X_isRing {D : va_G} {ct : Nat → ClassId} {a : XA} {ρ : Option Nat} {st : XS} {a1 : Int32} {z : Int32} (S : CallFix p m c cc nL s args lw_all own) (hl : lv_has ls nL lv) (hE : gEX s) (hK : va_K D clA (tysG ct) s) (hH : GH D A (xAs a) H0 (WX ct a ρ st) H locs) (hlk : Cond.methodLink own idx yX0_isRing ∈ lw_all) (hv : X_isRing st a1 = some z) (hR : 2 ≤ R.frames ∧ 43 ≤ R.locals) (hsum : (rest.map fun v => v.category).sum ≤ 8) (hdg : decode cc pc = .ok (.invokevirtual idx, 3)) (hf : cells ≤ R.cells ∧ slots ≤ R.slots)
    (k : W p l e R s m args below meth c H locs cells slots Q (F0 m (pc + 3) ls (.int z :: rest))) : W p l e R s m args below meth c H locs cells slots Q (F0 m pc ls (.int a1 :: .ref (ah a 0) :: rest)) :=
  r_calli (av := [.int a1]) S hl gEX_ok hE hK hH (met_X_isRing l D ct a ρ H.size st a1 z hv) (lw_V hlk q483 qs10 q69 q484) rfl rfl ⟨rfl, by decide, by decide, by show (parseMethodDescriptor yX0_isRing.desc).map (fun d => d.parameters.length) = some 1; decide +kernel⟩ hR (x_recv hK hH) rfl hsum hdg hf k
end CR_X_isRing
/-! CapCouncil.reach (I)I -/
def X_reach (st : XS) (a1 : Int32) : Option Int32 :=
  (bs_ld (xa st 2) 5 a1).bind fun v1 =>
  (J9_min (18 : Int32) (v1 + (xi st 7))).bind fun v2 =>
  some v2
def rm_X_reach : Room := { frames := 1, cells := 0, slots := 0, locals := 21 }
set_option maxHeartbeats 4000000 in
set_option maxRecDepth 100000 in
theorem met_X_reach (l : Launch) (D : va_G) (ct : Nat → ClassId) (a : XA) (ρ : Option Nat) (sz : Nat) (st : XS) (a1 : Int32) (z : Int32) (hd : X_reach st a1 = some z) : Met l yX0_reach (ws_ yX0_reach cX0_reach 2 (some .int)) rm_X_reach (GPre gEX D ct (xAs a) (WX ct a ρ st) sz [.ref (ah a 0), .int a1]) (vp_Si (fun r => r = z)) 0 0 (fun _ => False) := by
  refine g_met (cc := cX0_reach) (maxL := 2) (ret := (some .int)) (by decide) (Nat.le_of_ble_eq_true rfl) ?_
  intro p e U m args below meth c ls S hr hlk hK hH hE hsz hl
  have S : CallFix p m c cX0_reach 2 U args lw_all RX0 := S
  have hx := S.1
  have hb := S.2.1
  have hl : lv_has ls 2 [(0, .ref (ah a 0)), (1, .int a1)] := hl
  unfold X_reach at hd
  refine lv_bipush (v := (18 : Int32)) (pc := 0) hx hb dX0_reach_0 (by decide) ?_
  refine lv_aload_n (pc := 2) hx hb dX0_reach_2 rfl (lv_at hl 0 rfl) ?_
  refine xg_wideOf (pc := 3) S hK hH dX0_reach_3 ?_
  refine lv_iload_n (pc := 6) hx hb dX0_reach_6 rfl (lv_at hl 1 rfl) ?_
  obtain ⟨v1, hv1, hd⟩ := bs_bd hd
  refine xl_wideOf (pc := 7) S hK hH hv1 dX0_reach_7 ?_
  refine lv_aload_n (pc := 8) hx hb dX0_reach_8 rfl (lv_at hl 0 rfl) ?_
  refine xg_yearNow (pc := 9) S hK hH dX0_reach_9 ?_
  refine lv_iadd (pc := 12) hx hb dX0_reach_12 ?_
  obtain ⟨v2, hv2, hd⟩ := bs_bd hd
  refine call_J9_min (pc := 13) S hl q513 hv2 ⟨Nat.le_of_ble_eq_true rfl, Nat.le_of_ble_eq_true rfl⟩ (Nat.le_of_ble_eq_true rfl) dX0_reach_13 ⟨Nat.zero_le _, Nat.zero_le _⟩ ?_
  exact r_iret hd S hr hlk dX0_reach_16
section CR_X_reach
variable {p : Program} {l : Launch} {e : Env} {R : Room} {s : State} {m : MethodId} {args : Array Value} {below : List Frame} {meth : Method} {c : Code} {H : Heap} {locs : List Loc} {cells slots : Nat} {Q : State → Prop}
variable {cc : ByteArray} {pc nL idx : Nat} {ls : Array Slot} {rest : List Value} {lv : List (Nat × Value)} {A : Nat → Prop} {H0 : Heap} {own : String}
theorem call_X_reach {D : va_G} {ct : Nat → ClassId} {a : XA} {ρ : Option Nat} {st : XS} {a1 : Int32} {z : Int32} (S : CallFix p m c cc nL s args lw_all own) (hl : lv_has ls nL lv) (hE : gEX s) (hK : va_K D clA (tysG ct) s) (hH : GH D A (xAs a) H0 (WX ct a ρ st) H locs) (hlk : Cond.methodLink own idx yX0_reach ∈ lw_all) (hv : X_reach st a1 = some z) (hR : 2 ≤ R.frames ∧ 42 ≤ R.locals) (hsum : (rest.map fun v => v.category).sum ≤ 8) (hdg : decode cc pc = .ok (.invokevirtual idx, 3)) (hf : cells ≤ R.cells ∧ slots ≤ R.slots)
    (k : W p l e R s m args below meth c H locs cells slots Q (F0 m (pc + 3) ls (.int z :: rest))) : W p l e R s m args below meth c H locs cells slots Q (F0 m pc ls (.int a1 :: .ref (ah a 0) :: rest)) :=
  r_calli (av := [.int a1]) S hl gEX_ok hE hK hH (met_X_reach l D ct a ρ H.size st a1 z hv) (lw_V hlk q511 qs12 q69 q512) rfl rfl ⟨rfl, by decide, by decide, by show (parseMethodDescriptor yX0_reach.desc).map (fun d => d.parameters.length) = some 1; decide +kernel⟩ hR (x_recv hK hH) rfl hsum hdg hf k
end CR_X_reach
/-! CapCouncil.has (II)Z -/
def X_has (a0 : Int32) (a1 : Int32) : Option Int32 :=
  if ((a0 >>> (a1 &&& 31)) &&& (1 : Int32)) = (1 : Int32) then
    (some (1 : Int32))
  else
    (some (0 : Int32))
def rm_X_has : Room := { frames := 0, cells := 0, slots := 0, locals := 0 }
set_option maxHeartbeats 4000000 in
set_option maxRecDepth 100000 in
theorem met_X_has (l : Launch) (a0 : Int32) (a1 : Int32) (z : Int32) (hd : X_has a0 a1 = some z) : Met l yX0_has (ws_ yX0_has cX0_has 2 (some .boolean)) rm_X_has (va_Pc [.int a0, .int a1] (fun _ => True)) (vp_Si (fun r => r = z)) 0 0 (fun _ => False) := by
  refine p_met (cc := cX0_has) (maxL := 2) (ret := (some .boolean)) (by decide) (Nat.le_of_ble_eq_true rfl) ?_
  intro p e U m args below meth c ls S hr hlk hl
  have S : CallFix p m c cX0_has 2 U args lw_all RX0 := S
  have hx := S.1
  have hb := S.2.1
  have hl : lv_has ls 2 [(0, .int a0), (1, .int a1)] := hl
  unfold X_has at hd
  refine lv_iload_n (pc := 0) hx hb dX0_has_0 rfl (lv_at hl 0 rfl) ?_
  refine lv_iload_n (pc := 1) hx hb dX0_has_1 rfl (lv_at hl 1 rfl) ?_
  refine lv_ishr (pc := 2) hx hb dX0_has_2 ?_
  refine lv_iconst (v := (1 : Int32)) (pc := 3) hx hb dX0_has_3 (by decide) ?_
  refine lv_iand (pc := 4) hx hb dX0_has_4 ?_
  refine lv_iconst (v := (1 : Int32)) (pc := 5) hx hb dX0_has_5 (by decide) ?_
  refine lv_icmp_ne (pc := 6) (tgt := 13) hx hb dX0_has_6 (by decide) (fun c1 => ?_) (fun c1 => ?_)
  · have hd := if_n c1 hd
    refine lv_iconst (v := (0 : Int32)) (pc := 13) hx hb dX0_has_13 (by decide) ?_
    exact r_zret rfl hd S hr hlk dX0_has_14
  · have hd := if_t c1 hd
    refine lv_iconst (v := (1 : Int32)) (pc := 9) hx hb dX0_has_9 (by decide) ?_
    refine lv_goto (pc := 10) (tgt := 14) hx hb dX0_has_10 (by decide) ?_
    exact r_zret rfl hd S hr hlk dX0_has_14
section CR_X_has
variable {p : Program} {l : Launch} {e : Env} {R : Room} {s : State} {m : MethodId} {args : Array Value} {below : List Frame} {meth : Method} {c : Code} {H : Heap} {locs : List Loc} {cells slots : Nat} {Q : State → Prop}
variable {cc : ByteArray} {pc nL idx : Nat} {ls : Array Slot} {rest : List Value} {lv : List (Nat × Value)} {A : Nat → Prop} {H0 : Heap} {own : String}
theorem call_X_has {a0 : Int32} {a1 : Int32} {z : Int32} (S : CallFix p m c cc nL s args lw_all own) (hl : lv_has ls nL lv) (hlk : Cond.methodLink own idx yX0_has ∈ lw_all) (hv : X_has a0 a1 = some z) (hR : 1 ≤ R.frames ∧ 21 ≤ R.locals) (hsum : (rest.map fun v => v.category).sum ≤ 8) (hdg : decode cc pc = .ok (.invokestatic idx, 3)) (hf : cells ≤ R.cells ∧ slots ≤ R.slots)
    (k : W p l e R s m args below meth c H locs cells slots Q (F0 m (pc + 3) ls (.int z :: rest))) : W p l e R s m args below meth c H locs cells slots Q (F0 m pc ls (.int a1 :: .int a0 :: rest)) :=
  p_calli (av := [.int a0, .int a1]) S hl (met_X_has l a0 a1 z hv) (lw_S hlk q521 q69 q522) rfl rfl ⟨by decide, by decide, by show (parseMethodDescriptor yX0_has.desc).map (fun d => d.parameters.length) = some 2; decide +kernel⟩ hR rfl hsum hdg hf k
end CR_X_has
/-! CapCouncil.apart (II)I -/
def X_apart (a0 : Int32) (a1 : Int32) : Option Int32 :=
  (J9_abs ((a0 / (10 : Int32)) - (a1 / (10 : Int32)))).bind fun v1 =>
  (J9_abs ((a0 - a0 / (10 : Int32) * (10 : Int32)) - (a1 - a1 / (10 : Int32) * (10 : Int32)))).bind fun v2 =>
  some (v1 + v2)
def rm_X_apart : Room := { frames := 1, cells := 0, slots := 0, locals := 21 }
set_option maxHeartbeats 4000000 in
set_option maxRecDepth 100000 in
theorem met_X_apart (l : Launch) (a0 : Int32) (a1 : Int32) (z : Int32) (hd : X_apart a0 a1 = some z) : Met l yX0_apart (ws_ yX0_apart cX0_apart 2 (some .int)) rm_X_apart (va_Pc [.int a0, .int a1] (fun _ => True)) (vp_Si (fun r => r = z)) 0 0 (fun _ => False) := by
  refine p_met (cc := cX0_apart) (maxL := 2) (ret := (some .int)) (by decide) (Nat.le_of_ble_eq_true rfl) ?_
  intro p e U m args below meth c ls S hr hlk hl
  have S : CallFix p m c cX0_apart 2 U args lw_all RX0 := S
  have hx := S.1
  have hb := S.2.1
  have hl : lv_has ls 2 [(0, .int a0), (1, .int a1)] := hl
  unfold X_apart at hd
  refine lv_iload_n (pc := 0) hx hb dX0_apart_0 rfl (lv_at hl 0 rfl) ?_
  refine lv_bipush (v := (10 : Int32)) (pc := 1) hx hb dX0_apart_1 (by decide) ?_
  refine lv_idiv (pc := 3) hx hb dX0_apart_3 (by decide) ?_
  refine lv_iload_n (pc := 4) hx hb dX0_apart_4 rfl (lv_at hl 1 rfl) ?_
  refine lv_bipush (v := (10 : Int32)) (pc := 5) hx hb dX0_apart_5 (by decide) ?_
  refine lv_idiv (pc := 7) hx hb dX0_apart_7 (by decide) ?_
  refine lv_isub (pc := 8) hx hb dX0_apart_8 ?_
  obtain ⟨v1, hv1, hd⟩ := bs_bd hd
  refine call_J9_abs (pc := 9) S hl q533 hv1 ⟨Nat.le_of_ble_eq_true rfl, Nat.le_of_ble_eq_true rfl⟩ (Nat.le_of_ble_eq_true rfl) dX0_apart_9 ⟨Nat.zero_le _, Nat.zero_le _⟩ ?_
  refine lv_iload_n (pc := 12) hx hb dX0_apart_12 rfl (lv_at hl 0 rfl) ?_
  refine lv_bipush (v := (10 : Int32)) (pc := 13) hx hb dX0_apart_13 (by decide) ?_
  refine lv_irem (pc := 15) hx hb dX0_apart_15 (by decide) ?_
  refine lv_iload_n (pc := 16) hx hb dX0_apart_16 rfl (lv_at hl 1 rfl) ?_
  refine lv_bipush (v := (10 : Int32)) (pc := 17) hx hb dX0_apart_17 (by decide) ?_
  refine lv_irem (pc := 19) hx hb dX0_apart_19 (by decide) ?_
  refine lv_isub (pc := 20) hx hb dX0_apart_20 ?_
  obtain ⟨v2, hv2, hd⟩ := bs_bd hd
  refine call_J9_abs (pc := 21) S hl q533 hv2 ⟨Nat.le_of_ble_eq_true rfl, Nat.le_of_ble_eq_true rfl⟩ (Nat.le_of_ble_eq_true rfl) dX0_apart_21 ⟨Nat.zero_le _, Nat.zero_le _⟩ ?_
  refine lv_iadd (pc := 24) hx hb dX0_apart_24 ?_
  exact r_iret hd S hr hlk dX0_apart_25
section CR_X_apart
variable {p : Program} {l : Launch} {e : Env} {R : Room} {s : State} {m : MethodId} {args : Array Value} {below : List Frame} {meth : Method} {c : Code} {H : Heap} {locs : List Loc} {cells slots : Nat} {Q : State → Prop}
variable {cc : ByteArray} {pc nL idx : Nat} {ls : Array Slot} {rest : List Value} {lv : List (Nat × Value)} {A : Nat → Prop} {H0 : Heap} {own : String}
theorem call_X_apart {a0 : Int32} {a1 : Int32} {z : Int32} (S : CallFix p m c cc nL s args lw_all own) (hl : lv_has ls nL lv) (hlk : Cond.methodLink own idx yX0_apart ∈ lw_all) (hv : X_apart a0 a1 = some z) (hR : 2 ≤ R.frames ∧ 42 ≤ R.locals) (hsum : (rest.map fun v => v.category).sum ≤ 8) (hdg : decode cc pc = .ok (.invokestatic idx, 3)) (hf : cells ≤ R.cells ∧ slots ≤ R.slots)
    (k : W p l e R s m args below meth c H locs cells slots Q (F0 m (pc + 3) ls (.int z :: rest))) : W p l e R s m args below meth c H locs cells slots Q (F0 m pc ls (.int a1 :: .int a0 :: rest)) :=
  p_calli (av := [.int a0, .int a1]) S hl (met_X_apart l a0 a1 z hv) (lw_S hlk q531 q69 q532) rfl rfl ⟨by decide, by decide, by show (parseMethodDescriptor yX0_apart.desc).map (fun d => d.parameters.length) = some 2; decide +kernel⟩ hR rfl hsum hdg hf k
end CR_X_apart
/-! CapCouncil.holdsBy (LCapCouncil$Ring;IIII)Z -/
def X_holdsBy (st : XS) (j0 : Nat) (a1 : Int32) (a2 : Int32) (a3 : Int32) (a4 : Int32) : Option Int32 :=
  (X_apart a3 a1).bind fun v1 =>
  (J9_min (18 : Int32) (a2 + a4)).bind fun v2 =>
  (X_rHas st j0 v1 ((a3 - a3 / (10 : Int32) * (10 : Int32)) - (a1 - a1 / (10 : Int32) * (10 : Int32))) v2 a4).bind fun v3 =>
  bs_gb v3 (some v3)
def rm_X_holdsBy : Room := { frames := 3, cells := 0, slots := 0, locals := 96 }
set_option maxHeartbeats 4000000 in
set_option maxRecDepth 100000 in
theorem met_X_holdsBy (l : Launch) (D : va_G) (ct : Nat → ClassId) (a : XA) (ρ : Option Nat) (sz : Nat) (st : XS) (j0 : Nat) (a1 : Int32) (a2 : Int32) (a3 : Int32) (a4 : Int32) (hj0 : j0 < 11) (z : Int32) (hd : X_holdsBy st j0 a1 a2 a3 a4 = some z) : Met l yX0_holdsBy (ws_ yX0_holdsBy cX0_holdsBy 5 (some .boolean)) rm_X_holdsBy (GPre gEX D ct (xAs a) (WX ct a ρ st) sz [va_rf (ag a j0), .int a1, .int a2, .int a3, .int a4]) (vp_Si (fun r => r = z)) 0 0 (fun _ => False) := by
  refine g_met (cc := cX0_holdsBy) (maxL := 5) (ret := (some .boolean)) (by decide) (by simp [lg_sl, va_rf_cat, vc_int, vc_ref, vc_long]) ?_
  intro p e U m args below meth c ls S hr hlk hK hH hE hsz hl
  have S : CallFix p m c cX0_holdsBy 5 U args lw_all RX0 := S
  have hx := S.1
  have hb := S.2.1
  have hl : lv_has ls 5 [(0, va_rf (ag a j0)), (1, .int a1), (2, .int a2), (3, .int a3), (4, .int a4)] := (by simpa [lv_args, va_rf_cat, vc_int, vc_ref, vc_long] using hl)
  unfold X_holdsBy at hd
  refine lv_aload_nO (pc := 0) hx hb dX0_holdsBy_0 rfl (lv_at hl 0 rfl) ?_
  refine lv_iload_n (pc := 1) hx hb dX0_holdsBy_1 rfl (lv_at hl 3 rfl) ?_
  refine lv_iload_n (pc := 2) hx hb dX0_holdsBy_2 rfl (lv_at hl 1 rfl) ?_
  obtain ⟨v1, hv1, hd⟩ := bs_bd hd
  refine call_X_apart (pc := 3) S hl q530 hv1 ⟨Nat.le_of_ble_eq_true rfl, Nat.le_of_ble_eq_true rfl⟩ (by simp [va_rf_cat, vc_int, vc_ref, vc_long]) dX0_holdsBy_3 ⟨Nat.zero_le _, Nat.zero_le _⟩ ?_
  refine lv_iload_n (pc := 6) hx hb dX0_holdsBy_6 rfl (lv_at hl 3 rfl) ?_
  refine lv_bipush (v := (10 : Int32)) (pc := 7) hx hb dX0_holdsBy_7 (by decide) ?_
  refine lv_irem (pc := 9) hx hb dX0_holdsBy_9 (by decide) ?_
  refine lv_iload_n (pc := 10) hx hb dX0_holdsBy_10 rfl (lv_at hl 1 rfl) ?_
  refine lv_bipush (v := (10 : Int32)) (pc := 11) hx hb dX0_holdsBy_11 (by decide) ?_
  refine lv_irem (pc := 13) hx hb dX0_holdsBy_13 (by decide) ?_
  refine lv_isub (pc := 14) hx hb dX0_holdsBy_14 ?_
  refine lv_bipush (v := (18 : Int32)) (pc := 15) hx hb dX0_holdsBy_15 (by decide) ?_
  refine lv_iload_n (pc := 17) hx hb dX0_holdsBy_17 rfl (lv_at hl 2 rfl) ?_
  refine lv_iload (pc := 18) hx hb dX0_holdsBy_18 (lv_at hl 4 rfl) ?_
  refine lv_iadd (pc := 20) hx hb dX0_holdsBy_20 ?_
  obtain ⟨v2, hv2, hd⟩ := bs_bd hd
  refine call_J9_min (pc := 21) S hl q513 hv2 ⟨Nat.le_of_ble_eq_true rfl, Nat.le_of_ble_eq_true rfl⟩ (by simp [va_rf_cat, vc_int, vc_ref, vc_long]) dX0_holdsBy_21 ⟨Nat.zero_le _, Nat.zero_le _⟩ ?_
  refine lv_iload (pc := 24) hx hb dX0_holdsBy_24 (lv_at hl 4 rfl) ?_
  obtain ⟨v3, hv3, hd⟩ := bs_bd hd
  refine call_X_rHas (pc := 26) S hl hK hH hj0 q536 hv3 ⟨Nat.le_of_ble_eq_true rfl, Nat.le_of_ble_eq_true rfl⟩ (Nat.le_of_ble_eq_true rfl) dX0_holdsBy_26 ⟨Nat.zero_le _, Nat.zero_le _⟩ ?_
  obtain ⟨hn4, hd⟩ := bs_gb_spec hd
  exact r_zret hn4 hd S hr hlk dX0_holdsBy_29
section CR_X_holdsBy
variable {p : Program} {l : Launch} {e : Env} {R : Room} {s : State} {m : MethodId} {args : Array Value} {below : List Frame} {meth : Method} {c : Code} {H : Heap} {locs : List Loc} {cells slots : Nat} {Q : State → Prop}
variable {cc : ByteArray} {pc nL idx : Nat} {ls : Array Slot} {rest : List Value} {lv : List (Nat × Value)} {A : Nat → Prop} {H0 : Heap} {own : String}
theorem call_X_holdsBy {D : va_G} {ct : Nat → ClassId} {a : XA} {ρ : Option Nat} {st : XS} {j0 : Nat} {a1 : Int32} {a2 : Int32} {a3 : Int32} {a4 : Int32} {z : Int32} (S : CallFix p m c cc nL s args lw_all own) (hl : lv_has ls nL lv) (hE : gEX s) (hK : va_K D clA (tysG ct) s) (hH : GH D A (xAs a) H0 (WX ct a ρ st) H locs) (hlk : Cond.methodLink own idx yX0_holdsBy ∈ lw_all) (hv : X_holdsBy st j0 a1 a2 a3 a4 = some z) (hj0 : j0 < 11) (hR : 4 ≤ R.frames ∧ 120 ≤ R.locals) (hsum : (rest.map fun v => v.category).sum ≤ 8) (hdg : decode cc pc = .ok (.invokestatic idx, 3)) (hf : cells ≤ R.cells ∧ slots ≤ R.slots)
    (k : W p l e R s m args below meth c H locs cells slots Q (F0 m (pc + 3) ls (.int z :: rest))) : W p l e R s m args below meth c H locs cells slots Q (F0 m pc ls (.int a4 :: .int a3 :: .int a2 :: .int a1 :: va_rf (ag a j0) :: rest)) :=
  r_callsi (av := [va_rf (ag a j0), .int a1, .int a2, .int a3, .int a4]) S hl gEX_ok hE hK hH (met_X_holdsBy l D ct a ρ H.size st j0 a1 a2 a3 a4 hj0 z hv) (lw_S hlk q528 q69 q529) rfl rfl ⟨by decide, by decide, by show (parseMethodDescriptor yX0_holdsBy.desc).map (fun d => d.parameters.length) = some 5; decide +kernel⟩ hR rfl hsum hdg hf k
end CR_X_holdsBy
/-! CapCouncil.isWithin (III)Z -/
def X_isWithin (st : XS) (a1 : Int32) (a2 : Int32) (a3 : Int32) : Option Int32 :=
  (bs_ix 5 a1).bind fun v1 =>
  (bs_ld (xa st 1) 5 a1).bind fun v2 =>
  (bs_ld (xa st 2) 5 a1).bind fun v3 =>
  (X_holdsBy st (6 + v1) v2 v3 a2 a3).bind fun v4 =>
  bs_gb v4 (some v4)
def rm_X_isWithin : Room := { frames := 4, cells := 0, slots := 0, locals := 120 }
set_option maxHeartbeats 4000000 in
set_option maxRecDepth 100000 in
theorem met_X_isWithin (l : Launch) (D : va_G) (ct : Nat → ClassId) (a : XA) (ρ : Option Nat) (sz : Nat) (st : XS) (a1 : Int32) (a2 : Int32) (a3 : Int32) (z : Int32) (hd : X_isWithin st a1 a2 a3 = some z) : Met l yX0_isWithin (ws_ yX0_isWithin cX0_isWithin 4 (some .boolean)) rm_X_isWithin (GPre gEX D ct (xAs a) (WX ct a ρ st) sz [.ref (ah a 0), .int a1, .int a2, .int a3]) (vp_Si (fun r => r = z)) 0 0 (fun _ => False) := by
  refine g_met (cc := cX0_isWithin) (maxL := 4) (ret := (some .boolean)) (by decide) (Nat.le_of_ble_eq_true rfl) ?_
  intro p e U m args below meth c ls S hr hlk hK hH hE hsz hl
  have S : CallFix p m c cX0_isWithin 4 U args lw_all RX0 := S
  have hx := S.1
  have hb := S.2.1
  have hl : lv_has ls 4 [(0, .ref (ah a 0)), (1, .int a1), (2, .int a2), (3, .int a3)] := hl
  unfold X_isWithin at hd
  refine lv_aload_n (pc := 0) hx hb dX0_isWithin_0 rfl (lv_at hl 0 rfl) ?_
  refine xg_rings (pc := 1) S hK hH dX0_isWithin_1 ?_
  refine lv_iload_n (pc := 4) hx hb dX0_isWithin_4 rfl (lv_at hl 1 rfl) ?_
  obtain ⟨v1, hv1, hd⟩ := bs_bd hd
  refine xq_rings (pc := 5) S hK hH hv1 dX0_isWithin_5 ?_
  refine lv_aload_n (pc := 6) hx hb dX0_isWithin_6 rfl (lv_at hl 0 rfl) ?_
  refine xg_middleOf (pc := 7) S hK hH dX0_isWithin_7 ?_
  refine lv_iload_n (pc := 10) hx hb dX0_isWithin_10 rfl (lv_at hl 1 rfl) ?_
  obtain ⟨v2, hv2, hd⟩ := bs_bd hd
  refine xl_middleOf (pc := 11) S hK hH hv2 dX0_isWithin_11 ?_
  refine lv_aload_n (pc := 12) hx hb dX0_isWithin_12 rfl (lv_at hl 0 rfl) ?_
  refine xg_wideOf (pc := 13) S hK hH dX0_isWithin_13 ?_
  refine lv_iload_n (pc := 16) hx hb dX0_isWithin_16 rfl (lv_at hl 1 rfl) ?_
  obtain ⟨v3, hv3, hd⟩ := bs_bd hd
  refine xl_wideOf (pc := 17) S hK hH hv3 dX0_isWithin_17 ?_
  refine lv_iload_n (pc := 18) hx hb dX0_isWithin_18 rfl (lv_at hl 2 rfl) ?_
  refine lv_iload_n (pc := 19) hx hb dX0_isWithin_19 rfl (lv_at hl 3 rfl) ?_
  obtain ⟨v4, hv4, hd⟩ := bs_bd hd
  refine call_X_holdsBy (pc := 20) S hl hE hK hH q527 hv4 (Nat.add_lt_add_left (bs_ix_lt hv1) 6) ⟨Nat.le_of_ble_eq_true rfl, Nat.le_of_ble_eq_true rfl⟩ (Nat.le_of_ble_eq_true rfl) dX0_isWithin_20 ⟨Nat.zero_le _, Nat.zero_le _⟩ ?_
  obtain ⟨hn5, hd⟩ := bs_gb_spec hd
  exact r_zret hn5 hd S hr hlk dX0_isWithin_23
section CR_X_isWithin
variable {p : Program} {l : Launch} {e : Env} {R : Room} {s : State} {m : MethodId} {args : Array Value} {below : List Frame} {meth : Method} {c : Code} {H : Heap} {locs : List Loc} {cells slots : Nat} {Q : State → Prop}
variable {cc : ByteArray} {pc nL idx : Nat} {ls : Array Slot} {rest : List Value} {lv : List (Nat × Value)} {A : Nat → Prop} {H0 : Heap} {own : String}
theorem call_X_isWithin {D : va_G} {ct : Nat → ClassId} {a : XA} {ρ : Option Nat} {st : XS} {a1 : Int32} {a2 : Int32} {a3 : Int32} {z : Int32} (S : CallFix p m c cc nL s args lw_all own) (hl : lv_has ls nL lv) (hE : gEX s) (hK : va_K D clA (tysG ct) s) (hH : GH D A (xAs a) H0 (WX ct a ρ st) H locs) (hlk : Cond.methodLink own idx yX0_isWithin ∈ lw_all) (hv : X_isWithin st a1 a2 a3 = some z) (hR : 5 ≤ R.frames ∧ 143 ≤ R.locals) (hsum : (rest.map fun v => v.category).sum ≤ 8) (hdg : decode cc pc = .ok (.invokevirtual idx, 3)) (hf : cells ≤ R.cells ∧ slots ≤ R.slots)
    (k : W p l e R s m args below meth c H locs cells slots Q (F0 m (pc + 3) ls (.int z :: rest))) : W p l e R s m args below meth c H locs cells slots Q (F0 m pc ls (.int a3 :: .int a2 :: .int a1 :: .ref (ah a 0) :: rest)) :=
  r_calli (av := [.int a1, .int a2, .int a3]) S hl gEX_ok hE hK hH (met_X_isWithin l D ct a ρ H.size st a1 a2 a3 z hv) (lw_V hlk q525 qs14 q69 q526) rfl rfl ⟨rfl, by decide, by decide, by show (parseMethodDescriptor yX0_isWithin.desc).map (fun d => d.parameters.length) = some 3; decide +kernel⟩ hR (x_recv hK hH) rfl hsum hdg hf k
end CR_X_isWithin
/-! CapCouncil.bedsIn (I)I -/
def X_bedsIn_L4 (st : XS) (a1 : Int32) : Nat → Int32 → Int32 → Option Int32
  | 0, _, _ => none
  | n + 1, x2, x3 =>
    if (xi st 3) ≤ x3 then
      (some x2)
    else
      ((X_has (xi st 8) a1).bind fun v2 =>
      if v2 = 0 then
        (bs_let (x2 ||| (0 : Int32)) fun w4 =>
        bs_let (x3 + (1 : Int32)) fun w5 =>
        X_bedsIn_L4 st a1 n w4 w5)
      else
        ((bs_ld (xa st 5) 6 x3).bind fun v6 =>
        (X_isWithin st a1 v6 (xi st 7)).bind fun v7 =>
        if v7 = 0 then
          (bs_let (x2 ||| (0 : Int32)) fun w9 =>
          bs_let (x3 + (1 : Int32)) fun w10 =>
          X_bedsIn_L4 st a1 n w9 w10)
        else
          (bs_let (x2 ||| ((1 : Int32) <<< (x3 &&& 31))) fun w11 =>
          bs_let (x3 + (1 : Int32)) fun w12 =>
          X_bedsIn_L4 st a1 n w11 w12)))
def X_bedsIn (st : XS) (a1 : Int32) : Option Int32 :=
  X_bedsIn_L4 st a1 bs_fu (0 : Int32) (0 : Int32)
def rm_X_bedsIn : Room := { frames := 5, cells := 0, slots := 0, locals := 143 }
set_option maxHeartbeats 4000000 in
set_option maxRecDepth 100000 in
theorem met_X_bedsIn (l : Launch) (D : va_G) (ct : Nat → ClassId) (a : XA) (ρ : Option Nat) (sz : Nat) (st : XS) (a1 : Int32) (z : Int32) (hd : X_bedsIn st a1 = some z) : Met l yX0_bedsIn (ws_ yX0_bedsIn cX0_bedsIn 4 (some .int)) rm_X_bedsIn (GPre gEX D ct (xAs a) (WX ct a ρ st) sz [.ref (ah a 0), .int a1]) (vp_Si (fun r => r = z)) 0 0 (fun _ => False) := by
  refine g_met (cc := cX0_bedsIn) (maxL := 4) (ret := (some .int)) (by decide) (Nat.le_of_ble_eq_true rfl) ?_
  intro p e U m args below meth c ls S hr hlk hK hH hE hsz hl
  have S : CallFix p m c cX0_bedsIn 4 U args lw_all RX0 := S
  have hx := S.1
  have hb := S.2.1
  have hl : lv_has ls 4 [(0, .ref (ah a 0)), (1, .int a1)] := hl
  have h4 : ∀ (n4 : Nat) (x2 : Int32) (x3 : Int32) (ls : Array Slot), lv_has ls 4 [(0, .ref (ah a 0)), (1, .int a1), (2, .int x2), (3, .int x3)] → X_bedsIn_L4 st a1 n4 x2 x3 = some z → W p l e rm_X_bedsIn U m args below meth c U.heap [] 0 0 (MQ below (vp_Si (fun r => r = z)) args U 0 0 (fun _ => False)) (F0 m 4 ls []) := by
    intro n4
    induction n4 with
    | zero =>
      intro x2 x3 ls hl hd
      rw [X_bedsIn_L4] at hd
      cases hd
    | succ n4 ih4 =>
      intro x2 x3 ls hl hd
      rw [X_bedsIn_L4] at hd
      refine lv_iload_n (pc := 4) hx hb dX0_bedsIn_4 rfl (lv_at hl 3 rfl) ?_
      refine lv_aload_n (pc := 5) hx hb dX0_bedsIn_5 rfl (lv_at hl 0 rfl) ?_
      refine xg_bedMany (pc := 6) S hK hH dX0_bedsIn_6 ?_
      refine lv_icmp_ge (pc := 9) (tgt := 57) hx hb dX0_bedsIn_9 (by decide) (fun c1 => ?_) (fun c1 => ?_)
      · have hd := if_t c1 hd
        refine lv_iload_n (pc := 57) hx hb dX0_bedsIn_57 rfl (lv_at hl 2 rfl) ?_
        exact r_iret hd S hr hlk dX0_bedsIn_58
      · have hd := if_n c1 hd
        refine lv_iload_n (pc := 12) hx hb dX0_bedsIn_12 rfl (lv_at hl 2 rfl) ?_
        refine lv_aload_n (pc := 13) hx hb dX0_bedsIn_13 rfl (lv_at hl 0 rfl) ?_
        refine xg_up (pc := 14) S hK hH dX0_bedsIn_14 ?_
        refine lv_iload_n (pc := 17) hx hb dX0_bedsIn_17 rfl (lv_at hl 1 rfl) ?_
        obtain ⟨v2, hv2, hd⟩ := bs_bd hd
        refine call_X_has (pc := 18) S hl q520 hv2 ⟨Nat.le_of_ble_eq_true rfl, Nat.le_of_ble_eq_true rfl⟩ (Nat.le_of_ble_eq_true rfl) dX0_bedsIn_18 ⟨Nat.zero_le _, Nat.zero_le _⟩ ?_
        refine lv_if_eq (pc := 21) (tgt := 48) hx hb dX0_bedsIn_21 (by decide) (fun c3 => ?_) (fun c3 => ?_)
        · have hd := if_t c3 hd
          refine lv_iconst (v := (0 : Int32)) (pc := 48) hx hb dX0_bedsIn_48 (by decide) ?_
          refine lv_ior (pc := 49) hx hb dX0_bedsIn_49 ?_
          obtain ⟨w4, ew4, hd⟩ := bs_let_spec hd
          refine lv_topE (pc := 50) ew4 ?_
          refine lv_istore_n (pc := 50) (lv' := [(2, .int w4), (0, .ref (ah a 0)), (1, .int a1), (3, .int x3)]) hx hb dX0_bedsIn_50 rfl hl (by decide) rfl (fun ls hl => ?_)
          obtain ⟨w5, ew5, hd⟩ := bs_let_spec hd
          refine lv_iinc (pc := 51) (v := w5) (lv' := [(3, .int w5), (2, .int w4), (0, .ref (ah a 0)), (1, .int a1)]) hx hb dX0_bedsIn_51 hl (k := 3) rfl (by rw [ew5]; rfl) (by decide) rfl (fun ls hl => ?_)
          refine lv_goto (pc := 54) (tgt := 4) hx hb dX0_bedsIn_54 (by decide) ?_
          exact ih4 w4 w5 _ (lv_sub hl [2, 3, 1, 0] rfl) hd
        · have hd := if_n c3 hd
          refine lv_aload_n (pc := 24) hx hb dX0_bedsIn_24 rfl (lv_at hl 0 rfl) ?_
          refine lv_iload_n (pc := 25) hx hb dX0_bedsIn_25 rfl (lv_at hl 1 rfl) ?_
          refine lv_aload_n (pc := 26) hx hb dX0_bedsIn_26 rfl (lv_at hl 0 rfl) ?_
          refine xg_places (pc := 27) S hK hH dX0_bedsIn_27 ?_
          refine lv_iload_n (pc := 30) hx hb dX0_bedsIn_30 rfl (lv_at hl 3 rfl) ?_
          obtain ⟨v6, hv6, hd⟩ := bs_bd hd
          refine xl_places (pc := 31) S hK hH hv6 dX0_bedsIn_31 ?_
          refine lv_aload_n (pc := 32) hx hb dX0_bedsIn_32 rfl (lv_at hl 0 rfl) ?_
          refine xg_yearNow (pc := 33) S hK hH dX0_bedsIn_33 ?_
          obtain ⟨v7, hv7, hd⟩ := bs_bd hd
          refine call_X_isWithin (pc := 36) S hl hE hK hH q523 hv7 ⟨Nat.le_of_ble_eq_true rfl, Nat.le_of_ble_eq_true rfl⟩ (Nat.le_of_ble_eq_true rfl) dX0_bedsIn_36 ⟨Nat.zero_le _, Nat.zero_le _⟩ ?_
          refine lv_if_eq (pc := 39) (tgt := 48) hx hb dX0_bedsIn_39 (by decide) (fun c8 => ?_) (fun c8 => ?_)
          · have hd := if_t c8 hd
            refine lv_iconst (v := (0 : Int32)) (pc := 48) hx hb dX0_bedsIn_48 (by decide) ?_
            refine lv_ior (pc := 49) hx hb dX0_bedsIn_49 ?_
            obtain ⟨w9, ew9, hd⟩ := bs_let_spec hd
            refine lv_topE (pc := 50) ew9 ?_
            refine lv_istore_n (pc := 50) (lv' := [(2, .int w9), (0, .ref (ah a 0)), (1, .int a1), (3, .int x3)]) hx hb dX0_bedsIn_50 rfl hl (by decide) rfl (fun ls hl => ?_)
            obtain ⟨w10, ew10, hd⟩ := bs_let_spec hd
            refine lv_iinc (pc := 51) (v := w10) (lv' := [(3, .int w10), (2, .int w9), (0, .ref (ah a 0)), (1, .int a1)]) hx hb dX0_bedsIn_51 hl (k := 3) rfl (by rw [ew10]; rfl) (by decide) rfl (fun ls hl => ?_)
            refine lv_goto (pc := 54) (tgt := 4) hx hb dX0_bedsIn_54 (by decide) ?_
            exact ih4 w9 w10 _ (lv_sub hl [2, 3, 1, 0] rfl) hd
          · have hd := if_n c8 hd
            refine lv_iconst (v := (1 : Int32)) (pc := 42) hx hb dX0_bedsIn_42 (by decide) ?_
            refine lv_iload_n (pc := 43) hx hb dX0_bedsIn_43 rfl (lv_at hl 3 rfl) ?_
            refine lv_ishl (pc := 44) hx hb dX0_bedsIn_44 ?_
            refine lv_goto (pc := 45) (tgt := 49) hx hb dX0_bedsIn_45 (by decide) ?_
            refine lv_ior (pc := 49) hx hb dX0_bedsIn_49 ?_
            obtain ⟨w11, ew11, hd⟩ := bs_let_spec hd
            refine lv_topE (pc := 50) ew11 ?_
            refine lv_istore_n (pc := 50) (lv' := [(2, .int w11), (0, .ref (ah a 0)), (1, .int a1), (3, .int x3)]) hx hb dX0_bedsIn_50 rfl hl (by decide) rfl (fun ls hl => ?_)
            obtain ⟨w12, ew12, hd⟩ := bs_let_spec hd
            refine lv_iinc (pc := 51) (v := w12) (lv' := [(3, .int w12), (2, .int w11), (0, .ref (ah a 0)), (1, .int a1)]) hx hb dX0_bedsIn_51 hl (k := 3) rfl (by rw [ew12]; rfl) (by decide) rfl (fun ls hl => ?_)
            refine lv_goto (pc := 54) (tgt := 4) hx hb dX0_bedsIn_54 (by decide) ?_
            exact ih4 w11 w12 _ (lv_sub hl [2, 3, 1, 0] rfl) hd
  unfold X_bedsIn at hd
  refine lv_iconst (v := (0 : Int32)) (pc := 0) hx hb dX0_bedsIn_0 (by decide) ?_
  refine lv_istore_n (pc := 1) (lv' := [(2, .int (0 : Int32)), (0, .ref (ah a 0)), (1, .int a1)]) hx hb dX0_bedsIn_1 rfl hl (by decide) rfl (fun ls hl => ?_)
  refine lv_iconst (v := (0 : Int32)) (pc := 2) hx hb dX0_bedsIn_2 (by decide) ?_
  refine lv_istore_n (pc := 3) (lv' := [(3, .int (0 : Int32)), (2, .int (0 : Int32)), (0, .ref (ah a 0)), (1, .int a1)]) hx hb dX0_bedsIn_3 rfl hl (by decide) rfl (fun ls hl => ?_)
  exact h4 bs_fu (0 : Int32) (0 : Int32) _ (lv_sub hl [2, 3, 1, 0] rfl) hd
section CR_X_bedsIn
variable {p : Program} {l : Launch} {e : Env} {R : Room} {s : State} {m : MethodId} {args : Array Value} {below : List Frame} {meth : Method} {c : Code} {H : Heap} {locs : List Loc} {cells slots : Nat} {Q : State → Prop}
variable {cc : ByteArray} {pc nL idx : Nat} {ls : Array Slot} {rest : List Value} {lv : List (Nat × Value)} {A : Nat → Prop} {H0 : Heap} {own : String}
theorem call_X_bedsIn {D : va_G} {ct : Nat → ClassId} {a : XA} {ρ : Option Nat} {st : XS} {a1 : Int32} {z : Int32} (S : CallFix p m c cc nL s args lw_all own) (hl : lv_has ls nL lv) (hE : gEX s) (hK : va_K D clA (tysG ct) s) (hH : GH D A (xAs a) H0 (WX ct a ρ st) H locs) (hlk : Cond.methodLink own idx yX0_bedsIn ∈ lw_all) (hv : X_bedsIn st a1 = some z) (hR : 6 ≤ R.frames ∧ 166 ≤ R.locals) (hsum : (rest.map fun v => v.category).sum ≤ 8) (hdg : decode cc pc = .ok (.invokevirtual idx, 3)) (hf : cells ≤ R.cells ∧ slots ≤ R.slots)
    (k : W p l e R s m args below meth c H locs cells slots Q (F0 m (pc + 3) ls (.int z :: rest))) : W p l e R s m args below meth c H locs cells slots Q (F0 m pc ls (.int a1 :: .ref (ah a 0) :: rest)) :=
  r_calli (av := [.int a1]) S hl gEX_ok hE hK hH (met_X_bedsIn l D ct a ρ H.size st a1 z hv) (lw_V hlk q518 qs13 q69 q519) rfl rfl ⟨rfl, by decide, by decide, by show (parseMethodDescriptor yX0_bedsIn.desc).map (fun d => d.parameters.length) = some 1; decide +kernel⟩ hR (x_recv hK hH) rfl hsum hdg hf k
end CR_X_bedsIn
/-! CapCouncil.decides (I)I -/
def X_decides_L11 (k49 : Int32 → Int32 → Option Int32) (st : XS) (a1 : Int32) : Nat → Int32 → Int32 → Int32 → Option Int32
  | 0, _, _, _ => none
  | n + 1, x2, x3, x4 =>
    if (xi st 3) ≤ x4 then
      (k49 x2 x3)
    else
      ((X_has x2 x4).bind fun v3 =>
      if v3 = 0 then
        (bs_let (x3 + (0 : Int32)) fun w5 =>
        bs_let (x4 + (1 : Int32)) fun w6 =>
        X_decides_L11 k49 st a1 n x2 w5 w6)
      else
        ((bs_ld (xa st 6) 6 x4).bind fun v7 =>
        bs_let (x3 + v7) fun w8 =>
        bs_let (x4 + (1 : Int32)) fun w9 =>
        X_decides_L11 k49 st a1 n x2 w8 w9))
def X_decides_J49 (st : XS) (a1 : Int32) (x2 : Int32) (x3 : Int32) : Option Int32 :=
  if x2 = 0 then
    (some (-9 : Int32))
  else
    (some (x3 - x3 / (10 : Int32) * (10 : Int32)))
def X_decides (st : XS) (a1 : Int32) : Option Int32 :=
  (X_bedsIn st a1).bind fun v1 =>
  X_decides_L11 (X_decides_J49 st a1) st a1 bs_fu v1 (0 : Int32) (0 : Int32)
def rm_X_decides : Room := { frames := 6, cells := 0, slots := 0, locals := 166 }
set_option maxHeartbeats 4000000 in
set_option maxRecDepth 100000 in
theorem met_X_decides (l : Launch) (D : va_G) (ct : Nat → ClassId) (a : XA) (ρ : Option Nat) (sz : Nat) (st : XS) (a1 : Int32) (z : Int32) (hd : X_decides st a1 = some z) : Met l yX0_decides (ws_ yX0_decides cX0_decides 5 (some .int)) rm_X_decides (GPre gEX D ct (xAs a) (WX ct a ρ st) sz [.ref (ah a 0), .int a1]) (vp_Si (fun r => r = z)) 0 0 (fun _ => False) := by
  refine g_met (cc := cX0_decides) (maxL := 5) (ret := (some .int)) (by decide) (Nat.le_of_ble_eq_true rfl) ?_
  intro p e U m args below meth c ls S hr hlk hK hH hE hsz hl
  have S : CallFix p m c cX0_decides 5 U args lw_all RX0 := S
  have hx := S.1
  have hb := S.2.1
  have hl : lv_has ls 5 [(0, .ref (ah a 0)), (1, .int a1)] := hl
  have h49 : ∀ (x2 : Int32) (x3 : Int32) (ls : Array Slot), lv_has ls 5 [(0, .ref (ah a 0)), (1, .int a1), (2, .int x2), (3, .int x3)] → X_decides_J49 st a1 x2 x3 = some z → W p l e rm_X_decides U m args below meth c U.heap [] 0 0 (MQ below (vp_Si (fun r => r = z)) args U 0 0 (fun _ => False)) (F0 m 49 ls []) := by
    intro x2 x3 ls hl hd
    unfold X_decides_J49 at hd
    refine lv_iload_n (pc := 49) hx hb dX0_decides_49 rfl (lv_at hl 2 rfl) ?_
    refine lv_if_ne (pc := 50) (tgt := 58) hx hb dX0_decides_50 (by decide) (fun c10 => ?_) (fun c10 => ?_)
    · have hd := if_n c10 hd
      refine lv_iload_n (pc := 58) hx hb dX0_decides_58 rfl (lv_at hl 3 rfl) ?_
      refine lv_bipush (v := (10 : Int32)) (pc := 59) hx hb dX0_decides_59 (by decide) ?_
      refine lv_irem (pc := 61) hx hb dX0_decides_61 (by decide) ?_
      exact r_iret hd S hr hlk dX0_decides_62
    · have hd := if_t c10 hd
      refine lv_bipush (v := (-9 : Int32)) (pc := 53) hx hb dX0_decides_53 (by decide) ?_
      refine lv_goto (pc := 55) (tgt := 62) hx hb dX0_decides_55 (by decide) ?_
      exact r_iret hd S hr hlk dX0_decides_62
  have h11 : ∀ (n11 : Nat) (x2 : Int32) (x3 : Int32) (x4 : Int32) (ls : Array Slot), lv_has ls 5 [(0, .ref (ah a 0)), (1, .int a1), (2, .int x2), (3, .int x3), (4, .int x4)] → X_decides_L11 (X_decides_J49 st a1) st a1 n11 x2 x3 x4 = some z → W p l e rm_X_decides U m args below meth c U.heap [] 0 0 (MQ below (vp_Si (fun r => r = z)) args U 0 0 (fun _ => False)) (F0 m 11 ls []) := by
    intro n11
    induction n11 with
    | zero =>
      intro x2 x3 x4 ls hl hd
      rw [X_decides_L11] at hd
      cases hd
    | succ n11 ih11 =>
      intro x2 x3 x4 ls hl hd
      rw [X_decides_L11] at hd
      refine lv_iload (pc := 11) hx hb dX0_decides_11 (lv_at hl 4 rfl) ?_
      refine lv_aload_n (pc := 13) hx hb dX0_decides_13 rfl (lv_at hl 0 rfl) ?_
      refine xg_bedMany (pc := 14) S hK hH dX0_decides_14 ?_
      refine lv_icmp_ge (pc := 17) (tgt := 49) hx hb dX0_decides_17 (by decide) (fun c2 => ?_) (fun c2 => ?_)
      · have hd := if_t c2 hd
        exact h49 x2 x3 _ (lv_sub hl [0, 1, 2, 3] rfl) hd
      · have hd := if_n c2 hd
        refine lv_iload_n (pc := 20) hx hb dX0_decides_20 rfl (lv_at hl 3 rfl) ?_
        refine lv_iload_n (pc := 21) hx hb dX0_decides_21 rfl (lv_at hl 2 rfl) ?_
        refine lv_iload (pc := 22) hx hb dX0_decides_22 (lv_at hl 4 rfl) ?_
        obtain ⟨v3, hv3, hd⟩ := bs_bd hd
        refine call_X_has (pc := 24) S hl q520 hv3 ⟨Nat.le_of_ble_eq_true rfl, Nat.le_of_ble_eq_true rfl⟩ (Nat.le_of_ble_eq_true rfl) dX0_decides_24 ⟨Nat.zero_le _, Nat.zero_le _⟩ ?_
        refine lv_if_eq (pc := 27) (tgt := 40) hx hb dX0_decides_27 (by decide) (fun c4 => ?_) (fun c4 => ?_)
        · have hd := if_t c4 hd
          refine lv_iconst (v := (0 : Int32)) (pc := 40) hx hb dX0_decides_40 (by decide) ?_
          refine lv_iadd (pc := 41) hx hb dX0_decides_41 ?_
          obtain ⟨w5, ew5, hd⟩ := bs_let_spec hd
          refine lv_topE (pc := 42) ew5 ?_
          refine lv_istore_n (pc := 42) (lv' := [(3, .int w5), (0, .ref (ah a 0)), (1, .int a1), (2, .int x2), (4, .int x4)]) hx hb dX0_decides_42 rfl hl (by decide) rfl (fun ls hl => ?_)
          obtain ⟨w6, ew6, hd⟩ := bs_let_spec hd
          refine lv_iinc (pc := 43) (v := w6) (lv' := [(4, .int w6), (3, .int w5), (0, .ref (ah a 0)), (1, .int a1), (2, .int x2)]) hx hb dX0_decides_43 hl (k := 4) rfl (by rw [ew6]; rfl) (by decide) rfl (fun ls hl => ?_)
          refine lv_goto (pc := 46) (tgt := 11) hx hb dX0_decides_46 (by decide) ?_
          exact ih11 x2 w5 w6 _ (lv_sub hl [2, 3, 4, 1, 0] rfl) hd
        · have hd := if_n c4 hd
          refine lv_aload_n (pc := 30) hx hb dX0_decides_30 rfl (lv_at hl 0 rfl) ?_
          refine xg_thoughts (pc := 31) S hK hH dX0_decides_31 ?_
          refine lv_iload (pc := 34) hx hb dX0_decides_34 (lv_at hl 4 rfl) ?_
          obtain ⟨v7, hv7, hd⟩ := bs_bd hd
          refine xl_thoughts (pc := 36) S hK hH hv7 dX0_decides_36 ?_
          refine lv_goto (pc := 37) (tgt := 41) hx hb dX0_decides_37 (by decide) ?_
          refine lv_iadd (pc := 41) hx hb dX0_decides_41 ?_
          obtain ⟨w8, ew8, hd⟩ := bs_let_spec hd
          refine lv_topE (pc := 42) ew8 ?_
          refine lv_istore_n (pc := 42) (lv' := [(3, .int w8), (0, .ref (ah a 0)), (1, .int a1), (2, .int x2), (4, .int x4)]) hx hb dX0_decides_42 rfl hl (by decide) rfl (fun ls hl => ?_)
          obtain ⟨w9, ew9, hd⟩ := bs_let_spec hd
          refine lv_iinc (pc := 43) (v := w9) (lv' := [(4, .int w9), (3, .int w8), (0, .ref (ah a 0)), (1, .int a1), (2, .int x2)]) hx hb dX0_decides_43 hl (k := 4) rfl (by rw [ew9]; rfl) (by decide) rfl (fun ls hl => ?_)
          refine lv_goto (pc := 46) (tgt := 11) hx hb dX0_decides_46 (by decide) ?_
          exact ih11 x2 w8 w9 _ (lv_sub hl [2, 3, 4, 1, 0] rfl) hd
  unfold X_decides at hd
  refine lv_aload_n (pc := 0) hx hb dX0_decides_0 rfl (lv_at hl 0 rfl) ?_
  refine lv_iload_n (pc := 1) hx hb dX0_decides_1 rfl (lv_at hl 1 rfl) ?_
  obtain ⟨v1, hv1, hd⟩ := bs_bd hd
  refine call_X_bedsIn (pc := 2) S hl hE hK hH q516 hv1 ⟨Nat.le_of_ble_eq_true rfl, Nat.le_of_ble_eq_true rfl⟩ (Nat.le_of_ble_eq_true rfl) dX0_decides_2 ⟨Nat.zero_le _, Nat.zero_le _⟩ ?_
  refine lv_istore_n (pc := 5) (lv' := [(2, .int v1), (0, .ref (ah a 0)), (1, .int a1)]) hx hb dX0_decides_5 rfl hl (by decide) rfl (fun ls hl => ?_)
  refine lv_iconst (v := (0 : Int32)) (pc := 6) hx hb dX0_decides_6 (by decide) ?_
  refine lv_istore_n (pc := 7) (lv' := [(3, .int (0 : Int32)), (2, .int v1), (0, .ref (ah a 0)), (1, .int a1)]) hx hb dX0_decides_7 rfl hl (by decide) rfl (fun ls hl => ?_)
  refine lv_iconst (v := (0 : Int32)) (pc := 8) hx hb dX0_decides_8 (by decide) ?_
  refine lv_istore (pc := 9) (lv' := [(4, .int (0 : Int32)), (3, .int (0 : Int32)), (2, .int v1), (0, .ref (ah a 0)), (1, .int a1)]) hx hb dX0_decides_9 hl (by decide) rfl (fun ls hl => ?_)
  exact h11 bs_fu v1 (0 : Int32) (0 : Int32) _ (lv_sub hl [3, 4, 2, 1, 0] rfl) hd
section CR_X_decides
variable {p : Program} {l : Launch} {e : Env} {R : Room} {s : State} {m : MethodId} {args : Array Value} {below : List Frame} {meth : Method} {c : Code} {H : Heap} {locs : List Loc} {cells slots : Nat} {Q : State → Prop}
variable {cc : ByteArray} {pc nL idx : Nat} {ls : Array Slot} {rest : List Value} {lv : List (Nat × Value)} {A : Nat → Prop} {H0 : Heap} {own : String}
theorem call_X_decides {D : va_G} {ct : Nat → ClassId} {a : XA} {ρ : Option Nat} {st : XS} {a1 : Int32} {z : Int32} (S : CallFix p m c cc nL s args lw_all own) (hl : lv_has ls nL lv) (hE : gEX s) (hK : va_K D clA (tysG ct) s) (hH : GH D A (xAs a) H0 (WX ct a ρ st) H locs) (hlk : Cond.methodLink own idx yX0_decides ∈ lw_all) (hv : X_decides st a1 = some z) (hR : 7 ≤ R.frames ∧ 190 ≤ R.locals) (hsum : (rest.map fun v => v.category).sum ≤ 8) (hdg : decode cc pc = .ok (.invokevirtual idx, 3)) (hf : cells ≤ R.cells ∧ slots ≤ R.slots)
    (k : W p l e R s m args below meth c H locs cells slots Q (F0 m (pc + 3) ls (.int z :: rest))) : W p l e R s m args below meth c H locs cells slots Q (F0 m pc ls (.int a1 :: .ref (ah a 0) :: rest)) :=
  r_calli (av := [.int a1]) S hl gEX_ok hE hK hH (met_X_decides l D ct a ρ H.size st a1 z hv) (lw_V hlk q563 qs15 q69 q564) rfl rfl ⟨rfl, by decide, by decide, by show (parseMethodDescriptor yX0_decides.desc).map (fun d => d.parameters.length) = some 1; decide +kernel⟩ hR (x_recv hK hH) rfl hsum hdg hf k
end CR_X_decides
/-! CapCouncil.ringTells (II)I -/
def X_ringTells (st : XS) (a1 : Int32) (a2 : Int32) : Option Int32 :=
  if a2 = (0 : Int32) then
    ((bs_ix 5 a1).bind fun v2 =>
    (X_rKind st (6 + v2)).bind fun v3 =>
    some v3)
  else
  if a2 = (1 : Int32) then
    ((bs_ld (xa st 1) 5 a1).bind fun v5 =>
    some v5)
  else
  if a2 = (2 : Int32) then
    ((bs_ld (xa st 2) 5 a1).bind fun v7 =>
    some v7)
  else
  if a2 = (3 : Int32) then
    ((X_reach st a1).bind fun v9 =>
    some v9)
  else
  if a2 = (4 : Int32) then
    (some (((xi st 8) >>> (a1 &&& 31)) &&& (1 : Int32)))
  else
  if a2 = (5 : Int32) then
    ((X_bedsIn st a1).bind fun v12 =>
    some v12)
  else
    ((X_decides st a1).bind fun v13 =>
    some v13)
def rm_X_ringTells : Room := { frames := 7, cells := 0, slots := 0, locals := 190 }
set_option maxHeartbeats 4000000 in
set_option maxRecDepth 100000 in
theorem met_X_ringTells (l : Launch) (D : va_G) (ct : Nat → ClassId) (a : XA) (ρ : Option Nat) (sz : Nat) (st : XS) (a1 : Int32) (a2 : Int32) (z : Int32) (hd : X_ringTells st a1 a2 = some z) : Met l yX0_ringTells (ws_ yX0_ringTells cX0_ringTells 3 (some .int)) rm_X_ringTells (GPre gEX D ct (xAs a) (WX ct a ρ st) sz [.ref (ah a 0), .int a1, .int a2]) (vp_Si (fun r => r = z)) 0 0 (fun _ => False) := by
  refine g_met (cc := cX0_ringTells) (maxL := 3) (ret := (some .int)) (by decide) (Nat.le_of_ble_eq_true rfl) ?_
  intro p e U m args below meth c ls S hr hlk hK hH hE hsz hl
  have S : CallFix p m c cX0_ringTells 3 U args lw_all RX0 := S
  have hx := S.1
  have hb := S.2.1
  have hl : lv_has ls 3 [(0, .ref (ah a 0)), (1, .int a1), (2, .int a2)] := hl
  unfold X_ringTells at hd
  refine lv_iload_n (pc := 0) hx hb dX0_ringTells_0 rfl (lv_at hl 2 rfl) ?_
  by_cases c1 : a2 = (0 : Int32)
  · have hd := if_t c1 hd
    refine lv_tabE (pc := 1) (off := 39) (tgt := 40) hx hb dX0_ringTells_1 c1 (by decide) (by decide) rfl (by decide) ?_
    refine lv_aload_n (pc := 40) hx hb dX0_ringTells_40 rfl (lv_at hl 0 rfl) ?_
    refine xg_rings (pc := 41) S hK hH dX0_ringTells_41 ?_
    refine lv_iload_n (pc := 44) hx hb dX0_ringTells_44 rfl (lv_at hl 1 rfl) ?_
    obtain ⟨v2, hv2, hd⟩ := bs_bd hd
    refine xq_rings (pc := 45) S hK hH hv2 dX0_ringTells_45 ?_
    obtain ⟨v3, hv3, hd⟩ := bs_bd hd
    refine call_X_rKind (pc := 46) S hl hK hH (Nat.add_lt_add_left (bs_ix_lt hv2) 6) q489 hv3 ⟨Nat.le_of_ble_eq_true rfl, Nat.le_of_ble_eq_true rfl⟩ (Nat.le_of_ble_eq_true rfl) dX0_ringTells_46 ⟨Nat.zero_le _, Nat.zero_le _⟩ ?_
    exact r_iret hd S hr hlk dX0_ringTells_49
  have hd := if_n c1 hd
  by_cases c4 : a2 = (1 : Int32)
  · have hd := if_t c4 hd
    refine lv_tabE (pc := 1) (off := 49) (tgt := 50) hx hb dX0_ringTells_1 c4 (by decide) (by decide) rfl (by decide) ?_
    refine lv_aload_n (pc := 50) hx hb dX0_ringTells_50 rfl (lv_at hl 0 rfl) ?_
    refine xg_middleOf (pc := 51) S hK hH dX0_ringTells_51 ?_
    refine lv_iload_n (pc := 54) hx hb dX0_ringTells_54 rfl (lv_at hl 1 rfl) ?_
    obtain ⟨v5, hv5, hd⟩ := bs_bd hd
    refine xl_middleOf (pc := 55) S hK hH hv5 dX0_ringTells_55 ?_
    exact r_iret hd S hr hlk dX0_ringTells_56
  have hd := if_n c4 hd
  by_cases c6 : a2 = (2 : Int32)
  · have hd := if_t c6 hd
    refine lv_tabE (pc := 1) (off := 56) (tgt := 57) hx hb dX0_ringTells_1 c6 (by decide) (by decide) rfl (by decide) ?_
    refine lv_aload_n (pc := 57) hx hb dX0_ringTells_57 rfl (lv_at hl 0 rfl) ?_
    refine xg_wideOf (pc := 58) S hK hH dX0_ringTells_58 ?_
    refine lv_iload_n (pc := 61) hx hb dX0_ringTells_61 rfl (lv_at hl 1 rfl) ?_
    obtain ⟨v7, hv7, hd⟩ := bs_bd hd
    refine xl_wideOf (pc := 62) S hK hH hv7 dX0_ringTells_62 ?_
    exact r_iret hd S hr hlk dX0_ringTells_63
  have hd := if_n c6 hd
  by_cases c8 : a2 = (3 : Int32)
  · have hd := if_t c8 hd
    refine lv_tabE (pc := 1) (off := 63) (tgt := 64) hx hb dX0_ringTells_1 c8 (by decide) (by decide) rfl (by decide) ?_
    refine lv_aload_n (pc := 64) hx hb dX0_ringTells_64 rfl (lv_at hl 0 rfl) ?_
    refine lv_iload_n (pc := 65) hx hb dX0_ringTells_65 rfl (lv_at hl 1 rfl) ?_
    obtain ⟨v9, hv9, hd⟩ := bs_bd hd
    refine call_X_reach (pc := 66) S hl hE hK hH q509 hv9 ⟨Nat.le_of_ble_eq_true rfl, Nat.le_of_ble_eq_true rfl⟩ (Nat.le_of_ble_eq_true rfl) dX0_ringTells_66 ⟨Nat.zero_le _, Nat.zero_le _⟩ ?_
    exact r_iret hd S hr hlk dX0_ringTells_69
  have hd := if_n c8 hd
  by_cases c10 : a2 = (4 : Int32)
  · have hd := if_t c10 hd
    refine lv_tabE (pc := 1) (off := 69) (tgt := 70) hx hb dX0_ringTells_1 c10 (by decide) (by decide) rfl (by decide) ?_
    refine lv_aload_n (pc := 70) hx hb dX0_ringTells_70 rfl (lv_at hl 0 rfl) ?_
    refine xg_up (pc := 71) S hK hH dX0_ringTells_71 ?_
    refine lv_iload_n (pc := 74) hx hb dX0_ringTells_74 rfl (lv_at hl 1 rfl) ?_
    refine lv_ishr (pc := 75) hx hb dX0_ringTells_75 ?_
    refine lv_iconst (v := (1 : Int32)) (pc := 76) hx hb dX0_ringTells_76 (by decide) ?_
    refine lv_iand (pc := 77) hx hb dX0_ringTells_77 ?_
    exact r_iret hd S hr hlk dX0_ringTells_78
  have hd := if_n c10 hd
  by_cases c11 : a2 = (5 : Int32)
  · have hd := if_t c11 hd
    refine lv_tabE (pc := 1) (off := 78) (tgt := 79) hx hb dX0_ringTells_1 c11 (by decide) (by decide) rfl (by decide) ?_
    refine lv_aload_n (pc := 79) hx hb dX0_ringTells_79 rfl (lv_at hl 0 rfl) ?_
    refine lv_iload_n (pc := 80) hx hb dX0_ringTells_80 rfl (lv_at hl 1 rfl) ?_
    obtain ⟨v12, hv12, hd⟩ := bs_bd hd
    refine call_X_bedsIn (pc := 81) S hl hE hK hH q516 hv12 ⟨Nat.le_of_ble_eq_true rfl, Nat.le_of_ble_eq_true rfl⟩ (Nat.le_of_ble_eq_true rfl) dX0_ringTells_81 ⟨Nat.zero_le _, Nat.zero_le _⟩ ?_
    exact r_iret hd S hr hlk dX0_ringTells_84
  have hd := if_n c11 hd
  refine lv_tableOut (pc := 1) (tgt := 85) hx hb dX0_ringTells_1 (by have zc1 := lv_neT c1 (a := 0) (by decide); have zc4 := lv_neT c4 (a := 1) (by decide); have zc6 := lv_neT c6 (a := 2) (by decide); have zc8 := lv_neT c8 (a := 3) (by decide); have zc10 := lv_neT c10 (a := 4) (by decide); have zc11 := lv_neT c11 (a := 5) (by decide); omega) (by decide) ?_
  refine lv_aload_n (pc := 85) hx hb dX0_ringTells_85 rfl (lv_at hl 0 rfl) ?_
  refine lv_iload_n (pc := 86) hx hb dX0_ringTells_86 rfl (lv_at hl 1 rfl) ?_
  obtain ⟨v13, hv13, hd⟩ := bs_bd hd
  refine call_X_decides (pc := 87) S hl hE hK hH q561 hv13 ⟨Nat.le_of_ble_eq_true rfl, Nat.le_of_ble_eq_true rfl⟩ (Nat.le_of_ble_eq_true rfl) dX0_ringTells_87 ⟨Nat.zero_le _, Nat.zero_le _⟩ ?_
  exact r_iret hd S hr hlk dX0_ringTells_90
section CR_X_ringTells
variable {p : Program} {l : Launch} {e : Env} {R : Room} {s : State} {m : MethodId} {args : Array Value} {below : List Frame} {meth : Method} {c : Code} {H : Heap} {locs : List Loc} {cells slots : Nat} {Q : State → Prop}
variable {cc : ByteArray} {pc nL idx : Nat} {ls : Array Slot} {rest : List Value} {lv : List (Nat × Value)} {A : Nat → Prop} {H0 : Heap} {own : String}
theorem call_X_ringTells {D : va_G} {ct : Nat → ClassId} {a : XA} {ρ : Option Nat} {st : XS} {a1 : Int32} {a2 : Int32} {z : Int32} (S : CallFix p m c cc nL s args lw_all own) (hl : lv_has ls nL lv) (hE : gEX s) (hK : va_K D clA (tysG ct) s) (hH : GH D A (xAs a) H0 (WX ct a ρ st) H locs) (hlk : Cond.methodLink own idx yX0_ringTells ∈ lw_all) (hv : X_ringTells st a1 a2 = some z) (hR : 8 ≤ R.frames ∧ 212 ≤ R.locals) (hsum : (rest.map fun v => v.category).sum ≤ 8) (hdg : decode cc pc = .ok (.invokevirtual idx, 3)) (hf : cells ≤ R.cells ∧ slots ≤ R.slots)
    (k : W p l e R s m args below meth c H locs cells slots Q (F0 m (pc + 3) ls (.int z :: rest))) : W p l e R s m args below meth c H locs cells slots Q (F0 m pc ls (.int a2 :: .int a1 :: .ref (ah a 0) :: rest)) :=
  r_calli (av := [.int a1, .int a2]) S hl gEX_ok hE hK hH (met_X_ringTells l D ct a ρ H.size st a1 a2 z hv) (lw_V hlk q487 qs11 q69 q488) rfl rfl ⟨rfl, by decide, by decide, by show (parseMethodDescriptor yX0_ringTells.desc).map (fun d => d.parameters.length) = some 2; decide +kernel⟩ hR (x_recv hK hH) rfl hsum hdg hf k
end CR_X_ringTells
/-! CapCouncil.ring (II)I -/
def X_ring (st : XS) (a1 : Int32) (a2 : Int32) : Option (XS × Int32) :=
  (X_isRing st a1).bind fun v1 =>
  if v1 = 0 then
    (some (st, (-1 : Int32)))
  else
    ((X_isIn a2 (0 : Int32) (6 : Int32)).bind fun v3 =>
    if v3 = 0 then
      (some (st, (-1 : Int32)))
    else
      ((X_ringTells st a1 a2).bind fun v5 =>
      (X_ask st v5 (1 : Int32)).bind fun q6 =>
      some (q6.1, q6.2)))
def rm_X_ring : Room := { frames := 8, cells := 0, slots := 0, locals := 212 }
set_option maxHeartbeats 4000000 in
set_option maxRecDepth 100000 in
theorem met_X_ring (l : Launch) (D : va_G) (ct : Nat → ClassId) (a : XA) (ρ : Option Nat) (sz : Nat) (st : XS) (a1 : Int32) (a2 : Int32) (z : (XS × Int32)) (hd : X_ring st a1 a2 = some z) : Met l yX0_ring (ws_ yX0_ring cX0_ring 3 (some .int)) rm_X_ring (GPre gEX D ct (xAs a) (WX ct a ρ st) sz [.ref (ah a 0), .int a1, .int a2]) (GQi D (xAs a) (xAs a) (WX ct a ρ z.1) sz z.2) 0 0 (gA (xAs a) sz) := by
  refine g_met (cc := cX0_ring) (maxL := 3) (ret := (some .int)) (by decide) (Nat.le_of_ble_eq_true rfl) ?_
  intro p e U m args below meth c ls S hr hlk hK hH hE hsz hl
  have S : CallFix p m c cX0_ring 3 U args lw_all RX0 := S
  have hx := S.1
  have hb := S.2.1
  have hl : lv_has ls 3 [(0, .ref (ah a 0)), (1, .int a1), (2, .int a2)] := hl
  unfold X_ring at hd
  refine lv_aload_n (pc := 0) hx hb dX0_ring_0 rfl (lv_at hl 0 rfl) ?_
  refine lv_iload_n (pc := 1) hx hb dX0_ring_1 rfl (lv_at hl 1 rfl) ?_
  obtain ⟨v1, hv1, hd⟩ := bs_bd hd
  refine call_X_isRing (pc := 2) S hl hE hK hH q481 hv1 ⟨Nat.le_of_ble_eq_true rfl, Nat.le_of_ble_eq_true rfl⟩ (Nat.le_of_ble_eq_true rfl) dX0_ring_2 ⟨Nat.zero_le _, Nat.zero_le _⟩ ?_
  refine lv_if_eq (pc := 5) (tgt := 32) hx hb dX0_ring_5 (by decide) (fun c2 => ?_) (fun c2 => ?_)
  · have hd := if_t c2 hd
    refine lv_iconst (v := (-1 : Int32)) (pc := 32) hx hb dX0_ring_32 (by decide) ?_
    exact g_iret (WX ct a ρ) hd S hr hlk hH dX0_ring_33
  · have hd := if_n c2 hd
    refine lv_iload_n (pc := 8) hx hb dX0_ring_8 rfl (lv_at hl 2 rfl) ?_
    refine lv_iconst (v := (0 : Int32)) (pc := 9) hx hb dX0_ring_9 (by decide) ?_
    refine lv_bipush (v := (6 : Int32)) (pc := 10) hx hb dX0_ring_10 (by decide) ?_
    obtain ⟨v3, hv3, hd⟩ := bs_bd hd
    refine call_X_isIn (pc := 12) S hl q285 hv3 ⟨Nat.le_of_ble_eq_true rfl, Nat.le_of_ble_eq_true rfl⟩ (Nat.le_of_ble_eq_true rfl) dX0_ring_12 ⟨Nat.zero_le _, Nat.zero_le _⟩ ?_
    refine lv_if_eq (pc := 15) (tgt := 32) hx hb dX0_ring_15 (by decide) (fun c4 => ?_) (fun c4 => ?_)
    · have hd := if_t c4 hd
      refine lv_iconst (v := (-1 : Int32)) (pc := 32) hx hb dX0_ring_32 (by decide) ?_
      exact g_iret (WX ct a ρ) hd S hr hlk hH dX0_ring_33
    · have hd := if_n c4 hd
      refine lv_aload_n (pc := 18) hx hb dX0_ring_18 rfl (lv_at hl 0 rfl) ?_
      refine lv_aload_n (pc := 19) hx hb dX0_ring_19 rfl (lv_at hl 0 rfl) ?_
      refine lv_iload_n (pc := 20) hx hb dX0_ring_20 rfl (lv_at hl 1 rfl) ?_
      refine lv_iload_n (pc := 21) hx hb dX0_ring_21 rfl (lv_at hl 2 rfl) ?_
      obtain ⟨v5, hv5, hd⟩ := bs_bd hd
      refine call_X_ringTells (pc := 22) S hl hE hK hH q485 hv5 ⟨Nat.le_of_ble_eq_true rfl, Nat.le_of_ble_eq_true rfl⟩ (Nat.le_of_ble_eq_true rfl) dX0_ring_22 ⟨Nat.zero_le _, Nat.zero_le _⟩ ?_
      refine lv_iconst (v := (1 : Int32)) (pc := 25) hx hb dX0_ring_25 (by decide) ?_
      obtain ⟨q6, hq6, hd⟩ := bs_bd hd
      refine call_X_ask (pc := 26) S hl hE hK hH q344 hq6 ⟨Nat.le_of_ble_eq_true rfl, Nat.le_of_ble_eq_true rfl⟩ (Nat.le_of_ble_eq_true rfl) dX0_ring_26 ⟨Nat.zero_le _, Nat.zero_le _⟩ (fun H locs hH => ?_)
      refine lv_goto (pc := 29) (tgt := 33) hx hb dX0_ring_29 (by decide) ?_
      exact g_iret (WX ct a ρ) hd S hr hlk hH dX0_ring_33
section CR_X_ring
variable {p : Program} {l : Launch} {e : Env} {R : Room} {s : State} {m : MethodId} {args : Array Value} {below : List Frame} {meth : Method} {c : Code} {H : Heap} {locs : List Loc} {cells slots : Nat} {Q : State → Prop}
variable {cc : ByteArray} {pc nL idx : Nat} {ls : Array Slot} {rest : List Value} {lv : List (Nat × Value)} {A : Nat → Prop} {H0 : Heap} {own : String}
theorem call_X_ring {D : va_G} {ct : Nat → ClassId} {a : XA} {ρ : Option Nat} {st : XS} {a1 : Int32} {a2 : Int32} {z : (XS × Int32)} (S : CallFix p m c cc nL s args lw_all own) (hl : lv_has ls nL lv) (hE : gEX s) (hK : va_K D clA (tysG ct) s) (hH : GH D A (xAs a) H0 (WX ct a ρ st) H locs) (hlk : Cond.methodLink own idx yX0_ring ∈ lw_all) (hv : X_ring st a1 a2 = some z) (hR : 9 ≤ R.frames ∧ 234 ≤ R.locals) (hsum : (rest.map fun v => v.category).sum ≤ 8) (hdg : decode cc pc = .ok (.invokevirtual idx, 3)) (hf : cells ≤ R.cells ∧ slots ≤ R.slots)
    (k : ∀ (H1 : Heap) (locs1 : List Loc), GH D A (xAs a) H0 (WX ct a ρ z.1) H1 locs1 → W p l e R s m args below meth c H1 locs1 cells slots Q (F0 m (pc + 3) ls (.int z.2 :: rest))) : W p l e R s m args below meth c H locs cells slots Q (F0 m pc ls (.int a2 :: .int a1 :: .ref (ah a 0) :: rest)) :=
  g_calli (av := [.int a1, .int a2]) S hl gEX_ok hE hK hH (met_X_ring l D ct a ρ H.size st a1 a2 z hv) (lw_V hlk q478 q479 q69 q480) rfl rfl ⟨rfl, by decide, by decide, by show (parseMethodDescriptor yX0_ring.desc).map (fun d => d.parameters.length) = some 2; decide +kernel⟩ hR (x_recv hK hH) (fun _ h => Or.inl h) rfl hsum hdg hf k
end CR_X_ring
/-! CapCouncil.isBed (I)Z -/
def X_isBed (st : XS) (a1 : Int32) : Option Int32 :=
  (X_isIn a1 (0 : Int32) ((xi st 3) - (1 : Int32))).bind fun v1 =>
  bs_gb v1 (some v1)
def rm_X_isBed : Room := { frames := 1, cells := 0, slots := 0, locals := 22 }
set_option maxHeartbeats 4000000 in
set_option maxRecDepth 100000 in
theorem met_X_isBed (l : Launch) (D : va_G) (ct : Nat → ClassId) (a : XA) (ρ : Option Nat) (sz : Nat) (st : XS) (a1 : Int32) (z : Int32) (hd : X_isBed st a1 = some z) : Met l yX0_isBed (ws_ yX0_isBed cX0_isBed 2 (some .boolean)) rm_X_isBed (GPre gEX D ct (xAs a) (WX ct a ρ st) sz [.ref (ah a 0), .int a1]) (vp_Si (fun r => r = z)) 0 0 (fun _ => False) := by
  refine g_met (cc := cX0_isBed) (maxL := 2) (ret := (some .boolean)) (by decide) (Nat.le_of_ble_eq_true rfl) ?_
  intro p e U m args below meth c ls S hr hlk hK hH hE hsz hl
  have S : CallFix p m c cX0_isBed 2 U args lw_all RX0 := S
  have hx := S.1
  have hb := S.2.1
  have hl : lv_has ls 2 [(0, .ref (ah a 0)), (1, .int a1)] := hl
  unfold X_isBed at hd
  refine lv_iload_n (pc := 0) hx hb dX0_isBed_0 rfl (lv_at hl 1 rfl) ?_
  refine lv_iconst (v := (0 : Int32)) (pc := 1) hx hb dX0_isBed_1 (by decide) ?_
  refine lv_aload_n (pc := 2) hx hb dX0_isBed_2 rfl (lv_at hl 0 rfl) ?_
  refine xg_bedMany (pc := 3) S hK hH dX0_isBed_3 ?_
  refine lv_iconst (v := (1 : Int32)) (pc := 6) hx hb dX0_isBed_6 (by decide) ?_
  refine lv_isub (pc := 7) hx hb dX0_isBed_7 ?_
  obtain ⟨v1, hv1, hd⟩ := bs_bd hd
  refine call_X_isIn (pc := 8) S hl q285 hv1 ⟨Nat.le_of_ble_eq_true rfl, Nat.le_of_ble_eq_true rfl⟩ (Nat.le_of_ble_eq_true rfl) dX0_isBed_8 ⟨Nat.zero_le _, Nat.zero_le _⟩ ?_
  obtain ⟨hn2, hd⟩ := bs_gb_spec hd
  exact r_zret hn2 hd S hr hlk dX0_isBed_11
section CR_X_isBed
variable {p : Program} {l : Launch} {e : Env} {R : Room} {s : State} {m : MethodId} {args : Array Value} {below : List Frame} {meth : Method} {c : Code} {H : Heap} {locs : List Loc} {cells slots : Nat} {Q : State → Prop}
variable {cc : ByteArray} {pc nL idx : Nat} {ls : Array Slot} {rest : List Value} {lv : List (Nat × Value)} {A : Nat → Prop} {H0 : Heap} {own : String}
theorem call_X_isBed {D : va_G} {ct : Nat → ClassId} {a : XA} {ρ : Option Nat} {st : XS} {a1 : Int32} {z : Int32} (S : CallFix p m c cc nL s args lw_all own) (hl : lv_has ls nL lv) (hE : gEX s) (hK : va_K D clA (tysG ct) s) (hH : GH D A (xAs a) H0 (WX ct a ρ st) H locs) (hlk : Cond.methodLink own idx yX0_isBed ∈ lw_all) (hv : X_isBed st a1 = some z) (hR : 2 ≤ R.frames ∧ 43 ≤ R.locals) (hsum : (rest.map fun v => v.category).sum ≤ 8) (hdg : decode cc pc = .ok (.invokevirtual idx, 3)) (hf : cells ≤ R.cells ∧ slots ≤ R.slots)
    (k : W p l e R s m args below meth c H locs cells slots Q (F0 m (pc + 3) ls (.int z :: rest))) : W p l e R s m args below meth c H locs cells slots Q (F0 m pc ls (.int a1 :: .ref (ah a 0) :: rest)) :=
  r_calli (av := [.int a1]) S hl gEX_ok hE hK hH (met_X_isBed l D ct a ρ H.size st a1 z hv) (lw_V hlk q571 qs16 q69 q572) rfl rfl ⟨rfl, by decide, by decide, by show (parseMethodDescriptor yX0_isBed.desc).map (fun d => d.parameters.length) = some 1; decide +kernel⟩ hR (x_recv hK hH) rfl hsum hdg hf k
end CR_X_isBed
/-! CapCouncil.ringsAt (I)I -/
def X_ringsAt_L4 (st : XS) (a1 : Int32) : Nat → Int32 → Int32 → Option Int32
  | 0, _, _ => none
  | n + 1, x2, x3 =>
    if (xi st 2) ≤ x3 then
      (some x2)
    else
      ((X_has (xi st 8) x3).bind fun v2 =>
      if v2 = 0 then
        (bs_let (x2 ||| (0 : Int32)) fun w4 =>
        bs_let (x3 + (1 : Int32)) fun w5 =>
        X_ringsAt_L4 st a1 n w4 w5)
      else
        ((X_isWithin st x3 a1 (xi st 7)).bind fun v6 =>
        if v6 = 0 then
          (bs_let (x2 ||| (0 : Int32)) fun w8 =>
          bs_let (x3 + (1 : Int32)) fun w9 =>
          X_ringsAt_L4 st a1 n w8 w9)
        else
          (bs_let (x2 ||| ((1 : Int32) <<< (x3 &&& 31))) fun w10 =>
          bs_let (x3 + (1 : Int32)) fun w11 =>
          X_ringsAt_L4 st a1 n w10 w11)))
def X_ringsAt (st : XS) (a1 : Int32) : Option Int32 :=
  X_ringsAt_L4 st a1 bs_fu (0 : Int32) (0 : Int32)
def rm_X_ringsAt : Room := { frames := 5, cells := 0, slots := 0, locals := 143 }
set_option maxHeartbeats 4000000 in
set_option maxRecDepth 100000 in
theorem met_X_ringsAt (l : Launch) (D : va_G) (ct : Nat → ClassId) (a : XA) (ρ : Option Nat) (sz : Nat) (st : XS) (a1 : Int32) (z : Int32) (hd : X_ringsAt st a1 = some z) : Met l yX0_ringsAt (ws_ yX0_ringsAt cX0_ringsAt 4 (some .int)) rm_X_ringsAt (GPre gEX D ct (xAs a) (WX ct a ρ st) sz [.ref (ah a 0), .int a1]) (vp_Si (fun r => r = z)) 0 0 (fun _ => False) := by
  refine g_met (cc := cX0_ringsAt) (maxL := 4) (ret := (some .int)) (by decide) (Nat.le_of_ble_eq_true rfl) ?_
  intro p e U m args below meth c ls S hr hlk hK hH hE hsz hl
  have S : CallFix p m c cX0_ringsAt 4 U args lw_all RX0 := S
  have hx := S.1
  have hb := S.2.1
  have hl : lv_has ls 4 [(0, .ref (ah a 0)), (1, .int a1)] := hl
  have h4 : ∀ (n4 : Nat) (x2 : Int32) (x3 : Int32) (ls : Array Slot), lv_has ls 4 [(0, .ref (ah a 0)), (1, .int a1), (2, .int x2), (3, .int x3)] → X_ringsAt_L4 st a1 n4 x2 x3 = some z → W p l e rm_X_ringsAt U m args below meth c U.heap [] 0 0 (MQ below (vp_Si (fun r => r = z)) args U 0 0 (fun _ => False)) (F0 m 4 ls []) := by
    intro n4
    induction n4 with
    | zero =>
      intro x2 x3 ls hl hd
      rw [X_ringsAt_L4] at hd
      cases hd
    | succ n4 ih4 =>
      intro x2 x3 ls hl hd
      rw [X_ringsAt_L4] at hd
      refine lv_iload_n (pc := 4) hx hb dX0_ringsAt_4 rfl (lv_at hl 3 rfl) ?_
      refine lv_aload_n (pc := 5) hx hb dX0_ringsAt_5 rfl (lv_at hl 0 rfl) ?_
      refine xg_ringMany (pc := 6) S hK hH dX0_ringsAt_6 ?_
      refine lv_icmp_ge (pc := 9) (tgt := 52) hx hb dX0_ringsAt_9 (by decide) (fun c1 => ?_) (fun c1 => ?_)
      · have hd := if_t c1 hd
        refine lv_iload_n (pc := 52) hx hb dX0_ringsAt_52 rfl (lv_at hl 2 rfl) ?_
        exact r_iret hd S hr hlk dX0_ringsAt_53
      · have hd := if_n c1 hd
        refine lv_iload_n (pc := 12) hx hb dX0_ringsAt_12 rfl (lv_at hl 2 rfl) ?_
        refine lv_aload_n (pc := 13) hx hb dX0_ringsAt_13 rfl (lv_at hl 0 rfl) ?_
        refine xg_up (pc := 14) S hK hH dX0_ringsAt_14 ?_
        refine lv_iload_n (pc := 17) hx hb dX0_ringsAt_17 rfl (lv_at hl 3 rfl) ?_
        obtain ⟨v2, hv2, hd⟩ := bs_bd hd
        refine call_X_has (pc := 18) S hl q520 hv2 ⟨Nat.le_of_ble_eq_true rfl, Nat.le_of_ble_eq_true rfl⟩ (Nat.le_of_ble_eq_true rfl) dX0_ringsAt_18 ⟨Nat.zero_le _, Nat.zero_le _⟩ ?_
        refine lv_if_eq (pc := 21) (tgt := 43) hx hb dX0_ringsAt_21 (by decide) (fun c3 => ?_) (fun c3 => ?_)
        · have hd := if_t c3 hd
          refine lv_iconst (v := (0 : Int32)) (pc := 43) hx hb dX0_ringsAt_43 (by decide) ?_
          refine lv_ior (pc := 44) hx hb dX0_ringsAt_44 ?_
          obtain ⟨w4, ew4, hd⟩ := bs_let_spec hd
          refine lv_topE (pc := 45) ew4 ?_
          refine lv_istore_n (pc := 45) (lv' := [(2, .int w4), (0, .ref (ah a 0)), (1, .int a1), (3, .int x3)]) hx hb dX0_ringsAt_45 rfl hl (by decide) rfl (fun ls hl => ?_)
          obtain ⟨w5, ew5, hd⟩ := bs_let_spec hd
          refine lv_iinc (pc := 46) (v := w5) (lv' := [(3, .int w5), (2, .int w4), (0, .ref (ah a 0)), (1, .int a1)]) hx hb dX0_ringsAt_46 hl (k := 3) rfl (by rw [ew5]; rfl) (by decide) rfl (fun ls hl => ?_)
          refine lv_goto (pc := 49) (tgt := 4) hx hb dX0_ringsAt_49 (by decide) ?_
          exact ih4 w4 w5 _ (lv_sub hl [2, 3, 1, 0] rfl) hd
        · have hd := if_n c3 hd
          refine lv_aload_n (pc := 24) hx hb dX0_ringsAt_24 rfl (lv_at hl 0 rfl) ?_
          refine lv_iload_n (pc := 25) hx hb dX0_ringsAt_25 rfl (lv_at hl 3 rfl) ?_
          refine lv_iload_n (pc := 26) hx hb dX0_ringsAt_26 rfl (lv_at hl 1 rfl) ?_
          refine lv_aload_n (pc := 27) hx hb dX0_ringsAt_27 rfl (lv_at hl 0 rfl) ?_
          refine xg_yearNow (pc := 28) S hK hH dX0_ringsAt_28 ?_
          obtain ⟨v6, hv6, hd⟩ := bs_bd hd
          refine call_X_isWithin (pc := 31) S hl hE hK hH q523 hv6 ⟨Nat.le_of_ble_eq_true rfl, Nat.le_of_ble_eq_true rfl⟩ (Nat.le_of_ble_eq_true rfl) dX0_ringsAt_31 ⟨Nat.zero_le _, Nat.zero_le _⟩ ?_
          refine lv_if_eq (pc := 34) (tgt := 43) hx hb dX0_ringsAt_34 (by decide) (fun c7 => ?_) (fun c7 => ?_)
          · have hd := if_t c7 hd
            refine lv_iconst (v := (0 : Int32)) (pc := 43) hx hb dX0_ringsAt_43 (by decide) ?_
            refine lv_ior (pc := 44) hx hb dX0_ringsAt_44 ?_
            obtain ⟨w8, ew8, hd⟩ := bs_let_spec hd
            refine lv_topE (pc := 45) ew8 ?_
            refine lv_istore_n (pc := 45) (lv' := [(2, .int w8), (0, .ref (ah a 0)), (1, .int a1), (3, .int x3)]) hx hb dX0_ringsAt_45 rfl hl (by decide) rfl (fun ls hl => ?_)
            obtain ⟨w9, ew9, hd⟩ := bs_let_spec hd
            refine lv_iinc (pc := 46) (v := w9) (lv' := [(3, .int w9), (2, .int w8), (0, .ref (ah a 0)), (1, .int a1)]) hx hb dX0_ringsAt_46 hl (k := 3) rfl (by rw [ew9]; rfl) (by decide) rfl (fun ls hl => ?_)
            refine lv_goto (pc := 49) (tgt := 4) hx hb dX0_ringsAt_49 (by decide) ?_
            exact ih4 w8 w9 _ (lv_sub hl [2, 3, 1, 0] rfl) hd
          · have hd := if_n c7 hd
            refine lv_iconst (v := (1 : Int32)) (pc := 37) hx hb dX0_ringsAt_37 (by decide) ?_
            refine lv_iload_n (pc := 38) hx hb dX0_ringsAt_38 rfl (lv_at hl 3 rfl) ?_
            refine lv_ishl (pc := 39) hx hb dX0_ringsAt_39 ?_
            refine lv_goto (pc := 40) (tgt := 44) hx hb dX0_ringsAt_40 (by decide) ?_
            refine lv_ior (pc := 44) hx hb dX0_ringsAt_44 ?_
            obtain ⟨w10, ew10, hd⟩ := bs_let_spec hd
            refine lv_topE (pc := 45) ew10 ?_
            refine lv_istore_n (pc := 45) (lv' := [(2, .int w10), (0, .ref (ah a 0)), (1, .int a1), (3, .int x3)]) hx hb dX0_ringsAt_45 rfl hl (by decide) rfl (fun ls hl => ?_)
            obtain ⟨w11, ew11, hd⟩ := bs_let_spec hd
            refine lv_iinc (pc := 46) (v := w11) (lv' := [(3, .int w11), (2, .int w10), (0, .ref (ah a 0)), (1, .int a1)]) hx hb dX0_ringsAt_46 hl (k := 3) rfl (by rw [ew11]; rfl) (by decide) rfl (fun ls hl => ?_)
            refine lv_goto (pc := 49) (tgt := 4) hx hb dX0_ringsAt_49 (by decide) ?_
            exact ih4 w10 w11 _ (lv_sub hl [2, 3, 1, 0] rfl) hd
  unfold X_ringsAt at hd
  refine lv_iconst (v := (0 : Int32)) (pc := 0) hx hb dX0_ringsAt_0 (by decide) ?_
  refine lv_istore_n (pc := 1) (lv' := [(2, .int (0 : Int32)), (0, .ref (ah a 0)), (1, .int a1)]) hx hb dX0_ringsAt_1 rfl hl (by decide) rfl (fun ls hl => ?_)
  refine lv_iconst (v := (0 : Int32)) (pc := 2) hx hb dX0_ringsAt_2 (by decide) ?_
  refine lv_istore_n (pc := 3) (lv' := [(3, .int (0 : Int32)), (2, .int (0 : Int32)), (0, .ref (ah a 0)), (1, .int a1)]) hx hb dX0_ringsAt_3 rfl hl (by decide) rfl (fun ls hl => ?_)
  exact h4 bs_fu (0 : Int32) (0 : Int32) _ (lv_sub hl [2, 3, 1, 0] rfl) hd
section CR_X_ringsAt
variable {p : Program} {l : Launch} {e : Env} {R : Room} {s : State} {m : MethodId} {args : Array Value} {below : List Frame} {meth : Method} {c : Code} {H : Heap} {locs : List Loc} {cells slots : Nat} {Q : State → Prop}
variable {cc : ByteArray} {pc nL idx : Nat} {ls : Array Slot} {rest : List Value} {lv : List (Nat × Value)} {A : Nat → Prop} {H0 : Heap} {own : String}
theorem call_X_ringsAt {D : va_G} {ct : Nat → ClassId} {a : XA} {ρ : Option Nat} {st : XS} {a1 : Int32} {z : Int32} (S : CallFix p m c cc nL s args lw_all own) (hl : lv_has ls nL lv) (hE : gEX s) (hK : va_K D clA (tysG ct) s) (hH : GH D A (xAs a) H0 (WX ct a ρ st) H locs) (hlk : Cond.methodLink own idx yX0_ringsAt ∈ lw_all) (hv : X_ringsAt st a1 = some z) (hR : 6 ≤ R.frames ∧ 166 ≤ R.locals) (hsum : (rest.map fun v => v.category).sum ≤ 8) (hdg : decode cc pc = .ok (.invokevirtual idx, 3)) (hf : cells ≤ R.cells ∧ slots ≤ R.slots)
    (k : W p l e R s m args below meth c H locs cells slots Q (F0 m (pc + 3) ls (.int z :: rest))) : W p l e R s m args below meth c H locs cells slots Q (F0 m pc ls (.int a1 :: .ref (ah a 0) :: rest)) :=
  r_calli (av := [.int a1]) S hl gEX_ok hE hK hH (met_X_ringsAt l D ct a ρ H.size st a1 z hv) (lw_V hlk q579 qs18 q69 q580) rfl rfl ⟨rfl, by decide, by decide, by show (parseMethodDescriptor yX0_ringsAt.desc).map (fun d => d.parameters.length) = some 1; decide +kernel⟩ hR (x_recv hK hH) rfl hsum hdg hf k
end CR_X_ringsAt
/-! CapCouncil.bedTells (II)I -/
def X_bedTells (st : XS) (a1 : Int32) (a2 : Int32) : Option Int32 :=
  if a2 = 0 then
    ((bs_ld (xa st 5) 6 a1).bind fun v6 =>
    some v6)
  else
    (if a2 = (1 : Int32) then
      ((bs_ld (xa st 6) 6 a1).bind fun v5 =>
      some v5)
    else
      ((bs_ld (xa st 5) 6 a1).bind fun v3 =>
      (X_ringsAt st v3).bind fun v4 =>
      some v4))
def rm_X_bedTells : Room := { frames := 6, cells := 0, slots := 0, locals := 166 }
set_option maxHeartbeats 4000000 in
set_option maxRecDepth 100000 in
theorem met_X_bedTells (l : Launch) (D : va_G) (ct : Nat → ClassId) (a : XA) (ρ : Option Nat) (sz : Nat) (st : XS) (a1 : Int32) (a2 : Int32) (z : Int32) (hd : X_bedTells st a1 a2 = some z) : Met l yX0_bedTells (ws_ yX0_bedTells cX0_bedTells 3 (some .int)) rm_X_bedTells (GPre gEX D ct (xAs a) (WX ct a ρ st) sz [.ref (ah a 0), .int a1, .int a2]) (vp_Si (fun r => r = z)) 0 0 (fun _ => False) := by
  refine g_met (cc := cX0_bedTells) (maxL := 3) (ret := (some .int)) (by decide) (Nat.le_of_ble_eq_true rfl) ?_
  intro p e U m args below meth c ls S hr hlk hK hH hE hsz hl
  have S : CallFix p m c cX0_bedTells 3 U args lw_all RX0 := S
  have hx := S.1
  have hb := S.2.1
  have hl : lv_has ls 3 [(0, .ref (ah a 0)), (1, .int a1), (2, .int a2)] := hl
  unfold X_bedTells at hd
  refine lv_iload_n (pc := 0) hx hb dX0_bedTells_0 rfl (lv_at hl 2 rfl) ?_
  refine lv_if_ne (pc := 1) (tgt := 13) hx hb dX0_bedTells_1 (by decide) (fun c1 => ?_) (fun c1 => ?_)
  · have hd := if_n c1 hd
    refine lv_iload_n (pc := 13) hx hb dX0_bedTells_13 rfl (lv_at hl 2 rfl) ?_
    refine lv_iconst (v := (1 : Int32)) (pc := 14) hx hb dX0_bedTells_14 (by decide) ?_
    refine lv_icmp_ne (pc := 15) (tgt := 27) hx hb dX0_bedTells_15 (by decide) (fun c2 => ?_) (fun c2 => ?_)
    · have hd := if_n c2 hd
      refine lv_aload_n (pc := 27) hx hb dX0_bedTells_27 rfl (lv_at hl 0 rfl) ?_
      refine lv_aload_n (pc := 28) hx hb dX0_bedTells_28 rfl (lv_at hl 0 rfl) ?_
      refine xg_places (pc := 29) S hK hH dX0_bedTells_29 ?_
      refine lv_iload_n (pc := 32) hx hb dX0_bedTells_32 rfl (lv_at hl 1 rfl) ?_
      obtain ⟨v3, hv3, hd⟩ := bs_bd hd
      refine xl_places (pc := 33) S hK hH hv3 dX0_bedTells_33 ?_
      obtain ⟨v4, hv4, hd⟩ := bs_bd hd
      refine call_X_ringsAt (pc := 34) S hl hE hK hH q577 hv4 ⟨Nat.le_of_ble_eq_true rfl, Nat.le_of_ble_eq_true rfl⟩ (Nat.le_of_ble_eq_true rfl) dX0_bedTells_34 ⟨Nat.zero_le _, Nat.zero_le _⟩ ?_
      exact r_iret hd S hr hlk dX0_bedTells_37
    · have hd := if_t c2 hd
      refine lv_aload_n (pc := 18) hx hb dX0_bedTells_18 rfl (lv_at hl 0 rfl) ?_
      refine xg_thoughts (pc := 19) S hK hH dX0_bedTells_19 ?_
      refine lv_iload_n (pc := 22) hx hb dX0_bedTells_22 rfl (lv_at hl 1 rfl) ?_
      obtain ⟨v5, hv5, hd⟩ := bs_bd hd
      refine xl_thoughts (pc := 23) S hK hH hv5 dX0_bedTells_23 ?_
      refine lv_goto (pc := 24) (tgt := 37) hx hb dX0_bedTells_24 (by decide) ?_
      exact r_iret hd S hr hlk dX0_bedTells_37
  · have hd := if_t c1 hd
    refine lv_aload_n (pc := 4) hx hb dX0_bedTells_4 rfl (lv_at hl 0 rfl) ?_
    refine xg_places (pc := 5) S hK hH dX0_bedTells_5 ?_
    refine lv_iload_n (pc := 8) hx hb dX0_bedTells_8 rfl (lv_at hl 1 rfl) ?_
    obtain ⟨v6, hv6, hd⟩ := bs_bd hd
    refine xl_places (pc := 9) S hK hH hv6 dX0_bedTells_9 ?_
    refine lv_goto (pc := 10) (tgt := 37) hx hb dX0_bedTells_10 (by decide) ?_
    exact r_iret hd S hr hlk dX0_bedTells_37
section CR_X_bedTells
variable {p : Program} {l : Launch} {e : Env} {R : Room} {s : State} {m : MethodId} {args : Array Value} {below : List Frame} {meth : Method} {c : Code} {H : Heap} {locs : List Loc} {cells slots : Nat} {Q : State → Prop}
variable {cc : ByteArray} {pc nL idx : Nat} {ls : Array Slot} {rest : List Value} {lv : List (Nat × Value)} {A : Nat → Prop} {H0 : Heap} {own : String}
theorem call_X_bedTells {D : va_G} {ct : Nat → ClassId} {a : XA} {ρ : Option Nat} {st : XS} {a1 : Int32} {a2 : Int32} {z : Int32} (S : CallFix p m c cc nL s args lw_all own) (hl : lv_has ls nL lv) (hE : gEX s) (hK : va_K D clA (tysG ct) s) (hH : GH D A (xAs a) H0 (WX ct a ρ st) H locs) (hlk : Cond.methodLink own idx yX0_bedTells ∈ lw_all) (hv : X_bedTells st a1 a2 = some z) (hR : 7 ≤ R.frames ∧ 188 ≤ R.locals) (hsum : (rest.map fun v => v.category).sum ≤ 8) (hdg : decode cc pc = .ok (.invokevirtual idx, 3)) (hf : cells ≤ R.cells ∧ slots ≤ R.slots)
    (k : W p l e R s m args below meth c H locs cells slots Q (F0 m (pc + 3) ls (.int z :: rest))) : W p l e R s m args below meth c H locs cells slots Q (F0 m pc ls (.int a2 :: .int a1 :: .ref (ah a 0) :: rest)) :=
  r_calli (av := [.int a1, .int a2]) S hl gEX_ok hE hK hH (met_X_bedTells l D ct a ρ H.size st a1 a2 z hv) (lw_V hlk q575 qs17 q69 q576) rfl rfl ⟨rfl, by decide, by decide, by show (parseMethodDescriptor yX0_bedTells.desc).map (fun d => d.parameters.length) = some 2; decide +kernel⟩ hR (x_recv hK hH) rfl hsum hdg hf k
end CR_X_bedTells
/-! CapCouncil.bed (II)I -/
def X_bed (st : XS) (a1 : Int32) (a2 : Int32) : Option (XS × Int32) :=
  (X_isBed st a1).bind fun v1 =>
  if v1 = 0 then
    (some (st, (-1 : Int32)))
  else
    ((X_isIn a2 (0 : Int32) (2 : Int32)).bind fun v3 =>
    if v3 = 0 then
      (some (st, (-1 : Int32)))
    else
      ((X_bedTells st a1 a2).bind fun v5 =>
      (X_ask st v5 (1 : Int32)).bind fun q6 =>
      some (q6.1, q6.2)))
def rm_X_bed : Room := { frames := 7, cells := 0, slots := 0, locals := 188 }
set_option maxHeartbeats 4000000 in
set_option maxRecDepth 100000 in
theorem met_X_bed (l : Launch) (D : va_G) (ct : Nat → ClassId) (a : XA) (ρ : Option Nat) (sz : Nat) (st : XS) (a1 : Int32) (a2 : Int32) (z : (XS × Int32)) (hd : X_bed st a1 a2 = some z) : Met l yX0_bed (ws_ yX0_bed cX0_bed 3 (some .int)) rm_X_bed (GPre gEX D ct (xAs a) (WX ct a ρ st) sz [.ref (ah a 0), .int a1, .int a2]) (GQi D (xAs a) (xAs a) (WX ct a ρ z.1) sz z.2) 0 0 (gA (xAs a) sz) := by
  refine g_met (cc := cX0_bed) (maxL := 3) (ret := (some .int)) (by decide) (Nat.le_of_ble_eq_true rfl) ?_
  intro p e U m args below meth c ls S hr hlk hK hH hE hsz hl
  have S : CallFix p m c cX0_bed 3 U args lw_all RX0 := S
  have hx := S.1
  have hb := S.2.1
  have hl : lv_has ls 3 [(0, .ref (ah a 0)), (1, .int a1), (2, .int a2)] := hl
  unfold X_bed at hd
  refine lv_aload_n (pc := 0) hx hb dX0_bed_0 rfl (lv_at hl 0 rfl) ?_
  refine lv_iload_n (pc := 1) hx hb dX0_bed_1 rfl (lv_at hl 1 rfl) ?_
  obtain ⟨v1, hv1, hd⟩ := bs_bd hd
  refine call_X_isBed (pc := 2) S hl hE hK hH q569 hv1 ⟨Nat.le_of_ble_eq_true rfl, Nat.le_of_ble_eq_true rfl⟩ (Nat.le_of_ble_eq_true rfl) dX0_bed_2 ⟨Nat.zero_le _, Nat.zero_le _⟩ ?_
  refine lv_if_eq (pc := 5) (tgt := 31) hx hb dX0_bed_5 (by decide) (fun c2 => ?_) (fun c2 => ?_)
  · have hd := if_t c2 hd
    refine lv_iconst (v := (-1 : Int32)) (pc := 31) hx hb dX0_bed_31 (by decide) ?_
    exact g_iret (WX ct a ρ) hd S hr hlk hH dX0_bed_32
  · have hd := if_n c2 hd
    refine lv_iload_n (pc := 8) hx hb dX0_bed_8 rfl (lv_at hl 2 rfl) ?_
    refine lv_iconst (v := (0 : Int32)) (pc := 9) hx hb dX0_bed_9 (by decide) ?_
    refine lv_iconst (v := (2 : Int32)) (pc := 10) hx hb dX0_bed_10 (by decide) ?_
    obtain ⟨v3, hv3, hd⟩ := bs_bd hd
    refine call_X_isIn (pc := 11) S hl q285 hv3 ⟨Nat.le_of_ble_eq_true rfl, Nat.le_of_ble_eq_true rfl⟩ (Nat.le_of_ble_eq_true rfl) dX0_bed_11 ⟨Nat.zero_le _, Nat.zero_le _⟩ ?_
    refine lv_if_eq (pc := 14) (tgt := 31) hx hb dX0_bed_14 (by decide) (fun c4 => ?_) (fun c4 => ?_)
    · have hd := if_t c4 hd
      refine lv_iconst (v := (-1 : Int32)) (pc := 31) hx hb dX0_bed_31 (by decide) ?_
      exact g_iret (WX ct a ρ) hd S hr hlk hH dX0_bed_32
    · have hd := if_n c4 hd
      refine lv_aload_n (pc := 17) hx hb dX0_bed_17 rfl (lv_at hl 0 rfl) ?_
      refine lv_aload_n (pc := 18) hx hb dX0_bed_18 rfl (lv_at hl 0 rfl) ?_
      refine lv_iload_n (pc := 19) hx hb dX0_bed_19 rfl (lv_at hl 1 rfl) ?_
      refine lv_iload_n (pc := 20) hx hb dX0_bed_20 rfl (lv_at hl 2 rfl) ?_
      obtain ⟨v5, hv5, hd⟩ := bs_bd hd
      refine call_X_bedTells (pc := 21) S hl hE hK hH q573 hv5 ⟨Nat.le_of_ble_eq_true rfl, Nat.le_of_ble_eq_true rfl⟩ (Nat.le_of_ble_eq_true rfl) dX0_bed_21 ⟨Nat.zero_le _, Nat.zero_le _⟩ ?_
      refine lv_iconst (v := (1 : Int32)) (pc := 24) hx hb dX0_bed_24 (by decide) ?_
      obtain ⟨q6, hq6, hd⟩ := bs_bd hd
      refine call_X_ask (pc := 25) S hl hE hK hH q344 hq6 ⟨Nat.le_of_ble_eq_true rfl, Nat.le_of_ble_eq_true rfl⟩ (Nat.le_of_ble_eq_true rfl) dX0_bed_25 ⟨Nat.zero_le _, Nat.zero_le _⟩ (fun H locs hH => ?_)
      refine lv_goto (pc := 28) (tgt := 32) hx hb dX0_bed_28 (by decide) ?_
      exact g_iret (WX ct a ρ) hd S hr hlk hH dX0_bed_32
section CR_X_bed
variable {p : Program} {l : Launch} {e : Env} {R : Room} {s : State} {m : MethodId} {args : Array Value} {below : List Frame} {meth : Method} {c : Code} {H : Heap} {locs : List Loc} {cells slots : Nat} {Q : State → Prop}
variable {cc : ByteArray} {pc nL idx : Nat} {ls : Array Slot} {rest : List Value} {lv : List (Nat × Value)} {A : Nat → Prop} {H0 : Heap} {own : String}
theorem call_X_bed {D : va_G} {ct : Nat → ClassId} {a : XA} {ρ : Option Nat} {st : XS} {a1 : Int32} {a2 : Int32} {z : (XS × Int32)} (S : CallFix p m c cc nL s args lw_all own) (hl : lv_has ls nL lv) (hE : gEX s) (hK : va_K D clA (tysG ct) s) (hH : GH D A (xAs a) H0 (WX ct a ρ st) H locs) (hlk : Cond.methodLink own idx yX0_bed ∈ lw_all) (hv : X_bed st a1 a2 = some z) (hR : 8 ≤ R.frames ∧ 210 ≤ R.locals) (hsum : (rest.map fun v => v.category).sum ≤ 8) (hdg : decode cc pc = .ok (.invokevirtual idx, 3)) (hf : cells ≤ R.cells ∧ slots ≤ R.slots)
    (k : ∀ (H1 : Heap) (locs1 : List Loc), GH D A (xAs a) H0 (WX ct a ρ z.1) H1 locs1 → W p l e R s m args below meth c H1 locs1 cells slots Q (F0 m (pc + 3) ls (.int z.2 :: rest))) : W p l e R s m args below meth c H locs cells slots Q (F0 m pc ls (.int a2 :: .int a1 :: .ref (ah a 0) :: rest)) :=
  g_calli (av := [.int a1, .int a2]) S hl gEX_ok hE hK hH (met_X_bed l D ct a ρ H.size st a1 a2 z hv) (lw_V hlk q566 q567 q69 q568) rfl rfl ⟨rfl, by decide, by decide, by show (parseMethodDescriptor yX0_bed.desc).map (fun d => d.parameters.length) = some 2; decide +kernel⟩ hR (x_recv hK hH) (fun _ h => Or.inl h) rfl hsum hdg hf k
end CR_X_bed
/-! CapCouncil.holds (IIII)Z -/
def X_holds (st : XS) (a1 : Int32) (a2 : Int32) (a3 : Int32) (a4 : Int32) : Option Int32 :=
  (bs_ix 6 a2).bind fun v1 =>
  (bs_ld (xa st 1) 5 a1).bind fun v2 =>
  (bs_ld (xa st 2) 5 a1).bind fun v3 =>
  (X_holdsBy st v1 v2 v3 a3 a4).bind fun v4 =>
  bs_gb v4 (some v4)
def rm_X_holds : Room := { frames := 4, cells := 0, slots := 0, locals := 120 }
set_option maxHeartbeats 4000000 in
set_option maxRecDepth 100000 in
theorem met_X_holds (l : Launch) (D : va_G) (ct : Nat → ClassId) (a : XA) (ρ : Option Nat) (sz : Nat) (st : XS) (a1 : Int32) (a2 : Int32) (a3 : Int32) (a4 : Int32) (z : Int32) (hd : X_holds st a1 a2 a3 a4 = some z) : Met l yX0_holds (ws_ yX0_holds cX0_holds 5 (some .boolean)) rm_X_holds (GPre gEX D ct (xAs a) (WX ct a ρ st) sz [.ref (ah a 0), .int a1, .int a2, .int a3, .int a4]) (vp_Si (fun r => r = z)) 0 0 (fun _ => False) := by
  refine g_met (cc := cX0_holds) (maxL := 5) (ret := (some .boolean)) (by decide) (Nat.le_of_ble_eq_true rfl) ?_
  intro p e U m args below meth c ls S hr hlk hK hH hE hsz hl
  have S : CallFix p m c cX0_holds 5 U args lw_all RX0 := S
  have hx := S.1
  have hb := S.2.1
  have hl : lv_has ls 5 [(0, .ref (ah a 0)), (1, .int a1), (2, .int a2), (3, .int a3), (4, .int a4)] := hl
  unfold X_holds at hd
  refine lv_aload_n (pc := 0) hx hb dX0_holds_0 rfl (lv_at hl 0 rfl) ?_
  refine xg_likes (pc := 1) S hK hH dX0_holds_1 ?_
  refine lv_iload_n (pc := 4) hx hb dX0_holds_4 rfl (lv_at hl 2 rfl) ?_
  obtain ⟨v1, hv1, hd⟩ := bs_bd hd
  refine xq_likes (pc := 5) S hK hH hv1 dX0_holds_5 ?_
  refine lv_aload_n (pc := 6) hx hb dX0_holds_6 rfl (lv_at hl 0 rfl) ?_
  refine xg_middleOf (pc := 7) S hK hH dX0_holds_7 ?_
  refine lv_iload_n (pc := 10) hx hb dX0_holds_10 rfl (lv_at hl 1 rfl) ?_
  obtain ⟨v2, hv2, hd⟩ := bs_bd hd
  refine xl_middleOf (pc := 11) S hK hH hv2 dX0_holds_11 ?_
  refine lv_aload_n (pc := 12) hx hb dX0_holds_12 rfl (lv_at hl 0 rfl) ?_
  refine xg_wideOf (pc := 13) S hK hH dX0_holds_13 ?_
  refine lv_iload_n (pc := 16) hx hb dX0_holds_16 rfl (lv_at hl 1 rfl) ?_
  obtain ⟨v3, hv3, hd⟩ := bs_bd hd
  refine xl_wideOf (pc := 17) S hK hH hv3 dX0_holds_17 ?_
  refine lv_iload_n (pc := 18) hx hb dX0_holds_18 rfl (lv_at hl 3 rfl) ?_
  refine lv_iload (pc := 19) hx hb dX0_holds_19 (lv_at hl 4 rfl) ?_
  obtain ⟨v4, hv4, hd⟩ := bs_bd hd
  refine call_X_holdsBy (pc := 21) S hl hE hK hH q527 hv4 (Nat.lt_of_lt_of_le (bs_ix_lt hv1) (by decide)) ⟨Nat.le_of_ble_eq_true rfl, Nat.le_of_ble_eq_true rfl⟩ (Nat.le_of_ble_eq_true rfl) dX0_holds_21 ⟨Nat.zero_le _, Nat.zero_le _⟩ ?_
  obtain ⟨hn5, hd⟩ := bs_gb_spec hd
  exact r_zret hn5 hd S hr hlk dX0_holds_24
section CR_X_holds
variable {p : Program} {l : Launch} {e : Env} {R : Room} {s : State} {m : MethodId} {args : Array Value} {below : List Frame} {meth : Method} {c : Code} {H : Heap} {locs : List Loc} {cells slots : Nat} {Q : State → Prop}
variable {cc : ByteArray} {pc nL idx : Nat} {ls : Array Slot} {rest : List Value} {lv : List (Nat × Value)} {A : Nat → Prop} {H0 : Heap} {own : String}
theorem call_X_holds {D : va_G} {ct : Nat → ClassId} {a : XA} {ρ : Option Nat} {st : XS} {a1 : Int32} {a2 : Int32} {a3 : Int32} {a4 : Int32} {z : Int32} (S : CallFix p m c cc nL s args lw_all own) (hl : lv_has ls nL lv) (hE : gEX s) (hK : va_K D clA (tysG ct) s) (hH : GH D A (xAs a) H0 (WX ct a ρ st) H locs) (hlk : Cond.methodLink own idx yX0_holds ∈ lw_all) (hv : X_holds st a1 a2 a3 a4 = some z) (hR : 5 ≤ R.frames ∧ 144 ≤ R.locals) (hsum : (rest.map fun v => v.category).sum ≤ 8) (hdg : decode cc pc = .ok (.invokevirtual idx, 3)) (hf : cells ≤ R.cells ∧ slots ≤ R.slots)
    (k : W p l e R s m args below meth c H locs cells slots Q (F0 m (pc + 3) ls (.int z :: rest))) : W p l e R s m args below meth c H locs cells slots Q (F0 m pc ls (.int a4 :: .int a3 :: .int a2 :: .int a1 :: .ref (ah a 0) :: rest)) :=
  r_calli (av := [.int a1, .int a2, .int a3, .int a4]) S hl gEX_ok hE hK hH (met_X_holds l D ct a ρ H.size st a1 a2 a3 a4 z hv) (lw_V hlk q615 qs19 q69 q616) rfl rfl ⟨rfl, by decide, by decide, by show (parseMethodDescriptor yX0_holds.desc).map (fun d => d.parameters.length) = some 4; decide +kernel⟩ hR (x_recv hK hH) rfl hsum hdg hf k
end CR_X_holds
/-! CapCouncil.isCell (I)Z -/
def X_isCell (a0 : Int32) : Option Int32 :=
  (X_isIn a0 (0 : Int32) (99 : Int32)).bind fun v1 =>
  bs_gb v1 (some v1)
def rm_X_isCell : Room := { frames := 1, cells := 0, slots := 0, locals := 22 }
set_option maxHeartbeats 4000000 in
set_option maxRecDepth 100000 in
theorem met_X_isCell (l : Launch) (a0 : Int32) (z : Int32) (hd : X_isCell a0 = some z) : Met l yX0_isCell (ws_ yX0_isCell cX0_isCell 1 (some .boolean)) rm_X_isCell (va_Pc [.int a0] (fun _ => True)) (vp_Si (fun r => r = z)) 0 0 (fun _ => False) := by
  refine p_met (cc := cX0_isCell) (maxL := 1) (ret := (some .boolean)) (by decide) (Nat.le_of_ble_eq_true rfl) ?_
  intro p e U m args below meth c ls S hr hlk hl
  have S : CallFix p m c cX0_isCell 1 U args lw_all RX0 := S
  have hx := S.1
  have hb := S.2.1
  have hl : lv_has ls 1 [(0, .int a0)] := hl
  unfold X_isCell at hd
  refine lv_iload_n (pc := 0) hx hb dX0_isCell_0 rfl (lv_at hl 0 rfl) ?_
  refine lv_iconst (v := (0 : Int32)) (pc := 1) hx hb dX0_isCell_1 (by decide) ?_
  refine lv_bipush (v := (99 : Int32)) (pc := 2) hx hb dX0_isCell_2 (by decide) ?_
  obtain ⟨v1, hv1, hd⟩ := bs_bd hd
  refine call_X_isIn (pc := 4) S hl q285 hv1 ⟨Nat.le_of_ble_eq_true rfl, Nat.le_of_ble_eq_true rfl⟩ (Nat.le_of_ble_eq_true rfl) dX0_isCell_4 ⟨Nat.zero_le _, Nat.zero_le _⟩ ?_
  obtain ⟨hn2, hd⟩ := bs_gb_spec hd
  exact r_zret hn2 hd S hr hlk dX0_isCell_7
section CR_X_isCell
variable {p : Program} {l : Launch} {e : Env} {R : Room} {s : State} {m : MethodId} {args : Array Value} {below : List Frame} {meth : Method} {c : Code} {H : Heap} {locs : List Loc} {cells slots : Nat} {Q : State → Prop}
variable {cc : ByteArray} {pc nL idx : Nat} {ls : Array Slot} {rest : List Value} {lv : List (Nat × Value)} {A : Nat → Prop} {H0 : Heap} {own : String}
theorem call_X_isCell {a0 : Int32} {z : Int32} (S : CallFix p m c cc nL s args lw_all own) (hl : lv_has ls nL lv) (hlk : Cond.methodLink own idx yX0_isCell ∈ lw_all) (hv : X_isCell a0 = some z) (hR : 2 ≤ R.frames ∧ 42 ≤ R.locals) (hsum : (rest.map fun v => v.category).sum ≤ 8) (hdg : decode cc pc = .ok (.invokestatic idx, 3)) (hf : cells ≤ R.cells ∧ slots ≤ R.slots)
    (k : W p l e R s m args below meth c H locs cells slots Q (F0 m (pc + 3) ls (.int z :: rest))) : W p l e R s m args below meth c H locs cells slots Q (F0 m pc ls (.int a0 :: rest)) :=
  p_calli (av := [.int a0]) S hl (met_X_isCell l a0 z hv) (lw_S hlk q651 q69 q652) rfl rfl ⟨by decide, by decide, by show (parseMethodDescriptor yX0_isCell.desc).map (fun d => d.parameters.length) = some 1; decide +kernel⟩ hR rfl hsum hdg hf k
end CR_X_isCell
/-! CapCouncil.within (III)I -/
def X_within (st : XS) (a1 : Int32) (a2 : Int32) (a3 : Int32) : Option Int32 :=
  (X_isRing st a1).bind fun v1 =>
  if v1 = 0 then
    (some (-1 : Int32))
  else
    ((X_isCell a2).bind fun v3 =>
    if v3 = 0 then
      (some (-1 : Int32))
    else
      ((X_isIn a3 (0 : Int32) (99 : Int32)).bind fun v5 =>
      if v5 = 0 then
        (some (-1 : Int32))
      else
        ((X_isWithin st a1 a2 a3).bind fun v7 =>
        if v7 = 0 then
          (some (0 : Int32))
        else
          (some (1 : Int32)))))
def rm_X_within : Room := { frames := 5, cells := 0, slots := 0, locals := 143 }
set_option maxHeartbeats 4000000 in
set_option maxRecDepth 100000 in
theorem met_X_within (l : Launch) (D : va_G) (ct : Nat → ClassId) (a : XA) (ρ : Option Nat) (sz : Nat) (st : XS) (a1 : Int32) (a2 : Int32) (a3 : Int32) (z : Int32) (hd : X_within st a1 a2 a3 = some z) : Met l yX0_within (ws_ yX0_within cX0_within 4 (some .int)) rm_X_within (GPre gEX D ct (xAs a) (WX ct a ρ st) sz [.ref (ah a 0), .int a1, .int a2, .int a3]) (vp_Si (fun r => r = z)) 0 0 (fun _ => False) := by
  refine g_met (cc := cX0_within) (maxL := 4) (ret := (some .int)) (by decide) (Nat.le_of_ble_eq_true rfl) ?_
  intro p e U m args below meth c ls S hr hlk hK hH hE hsz hl
  have S : CallFix p m c cX0_within 4 U args lw_all RX0 := S
  have hx := S.1
  have hb := S.2.1
  have hl : lv_has ls 4 [(0, .ref (ah a 0)), (1, .int a1), (2, .int a2), (3, .int a3)] := hl
  unfold X_within at hd
  refine lv_aload_n (pc := 0) hx hb dX0_within_0 rfl (lv_at hl 0 rfl) ?_
  refine lv_iload_n (pc := 1) hx hb dX0_within_1 rfl (lv_at hl 1 rfl) ?_
  obtain ⟨v1, hv1, hd⟩ := bs_bd hd
  refine call_X_isRing (pc := 2) S hl hE hK hH q481 hv1 ⟨Nat.le_of_ble_eq_true rfl, Nat.le_of_ble_eq_true rfl⟩ (Nat.le_of_ble_eq_true rfl) dX0_within_2 ⟨Nat.zero_le _, Nat.zero_le _⟩ ?_
  refine lv_if_eq (pc := 5) (tgt := 25) hx hb dX0_within_5 (by decide) (fun c2 => ?_) (fun c2 => ?_)
  · have hd := if_t c2 hd
    refine lv_iconst (v := (-1 : Int32)) (pc := 25) hx hb dX0_within_25 (by decide) ?_
    exact r_iret hd S hr hlk dX0_within_26
  · have hd := if_n c2 hd
    refine lv_iload_n (pc := 8) hx hb dX0_within_8 rfl (lv_at hl 2 rfl) ?_
    obtain ⟨v3, hv3, hd⟩ := bs_bd hd
    refine call_X_isCell (pc := 9) S hl q650 hv3 ⟨Nat.le_of_ble_eq_true rfl, Nat.le_of_ble_eq_true rfl⟩ (Nat.le_of_ble_eq_true rfl) dX0_within_9 ⟨Nat.zero_le _, Nat.zero_le _⟩ ?_
    refine lv_if_eq (pc := 12) (tgt := 25) hx hb dX0_within_12 (by decide) (fun c4 => ?_) (fun c4 => ?_)
    · have hd := if_t c4 hd
      refine lv_iconst (v := (-1 : Int32)) (pc := 25) hx hb dX0_within_25 (by decide) ?_
      exact r_iret hd S hr hlk dX0_within_26
    · have hd := if_n c4 hd
      refine lv_iload_n (pc := 15) hx hb dX0_within_15 rfl (lv_at hl 3 rfl) ?_
      refine lv_iconst (v := (0 : Int32)) (pc := 16) hx hb dX0_within_16 (by decide) ?_
      refine lv_bipush (v := (99 : Int32)) (pc := 17) hx hb dX0_within_17 (by decide) ?_
      obtain ⟨v5, hv5, hd⟩ := bs_bd hd
      refine call_X_isIn (pc := 19) S hl q285 hv5 ⟨Nat.le_of_ble_eq_true rfl, Nat.le_of_ble_eq_true rfl⟩ (Nat.le_of_ble_eq_true rfl) dX0_within_19 ⟨Nat.zero_le _, Nat.zero_le _⟩ ?_
      refine lv_if_ne (pc := 22) (tgt := 27) hx hb dX0_within_22 (by decide) (fun c6 => ?_) (fun c6 => ?_)
      · have hd := if_n c6 hd
        refine lv_aload_n (pc := 27) hx hb dX0_within_27 rfl (lv_at hl 0 rfl) ?_
        refine lv_iload_n (pc := 28) hx hb dX0_within_28 rfl (lv_at hl 1 rfl) ?_
        refine lv_iload_n (pc := 29) hx hb dX0_within_29 rfl (lv_at hl 2 rfl) ?_
        refine lv_iload_n (pc := 30) hx hb dX0_within_30 rfl (lv_at hl 3 rfl) ?_
        obtain ⟨v7, hv7, hd⟩ := bs_bd hd
        refine call_X_isWithin (pc := 31) S hl hE hK hH q523 hv7 ⟨Nat.le_of_ble_eq_true rfl, Nat.le_of_ble_eq_true rfl⟩ (Nat.le_of_ble_eq_true rfl) dX0_within_31 ⟨Nat.zero_le _, Nat.zero_le _⟩ ?_
        refine lv_if_eq (pc := 34) (tgt := 41) hx hb dX0_within_34 (by decide) (fun c8 => ?_) (fun c8 => ?_)
        · have hd := if_t c8 hd
          refine lv_iconst (v := (0 : Int32)) (pc := 41) hx hb dX0_within_41 (by decide) ?_
          exact r_iret hd S hr hlk dX0_within_42
        · have hd := if_n c8 hd
          refine lv_iconst (v := (1 : Int32)) (pc := 37) hx hb dX0_within_37 (by decide) ?_
          refine lv_goto (pc := 38) (tgt := 42) hx hb dX0_within_38 (by decide) ?_
          exact r_iret hd S hr hlk dX0_within_42
      · have hd := if_t c6 hd
        refine lv_iconst (v := (-1 : Int32)) (pc := 25) hx hb dX0_within_25 (by decide) ?_
        exact r_iret hd S hr hlk dX0_within_26
section CR_X_within
variable {p : Program} {l : Launch} {e : Env} {R : Room} {s : State} {m : MethodId} {args : Array Value} {below : List Frame} {meth : Method} {c : Code} {H : Heap} {locs : List Loc} {cells slots : Nat} {Q : State → Prop}
variable {cc : ByteArray} {pc nL idx : Nat} {ls : Array Slot} {rest : List Value} {lv : List (Nat × Value)} {A : Nat → Prop} {H0 : Heap} {own : String}
theorem call_X_within {D : va_G} {ct : Nat → ClassId} {a : XA} {ρ : Option Nat} {st : XS} {a1 : Int32} {a2 : Int32} {a3 : Int32} {z : Int32} (S : CallFix p m c cc nL s args lw_all own) (hl : lv_has ls nL lv) (hE : gEX s) (hK : va_K D clA (tysG ct) s) (hH : GH D A (xAs a) H0 (WX ct a ρ st) H locs) (hlk : Cond.methodLink own idx yX0_within ∈ lw_all) (hv : X_within st a1 a2 a3 = some z) (hR : 6 ≤ R.frames ∧ 166 ≤ R.locals) (hsum : (rest.map fun v => v.category).sum ≤ 8) (hdg : decode cc pc = .ok (.invokevirtual idx, 3)) (hf : cells ≤ R.cells ∧ slots ≤ R.slots)
    (k : W p l e R s m args below meth c H locs cells slots Q (F0 m (pc + 3) ls (.int z :: rest))) : W p l e R s m args below meth c H locs cells slots Q (F0 m pc ls (.int a3 :: .int a2 :: .int a1 :: .ref (ah a 0) :: rest)) :=
  r_calli (av := [.int a1, .int a2, .int a3]) S hl gEX_ok hE hK hH (met_X_within l D ct a ρ H.size st a1 a2 a3 z hv) (lw_V hlk q647 q648 q69 q649) rfl rfl ⟨rfl, by decide, by decide, by show (parseMethodDescriptor yX0_within.desc).map (fun d => d.parameters.length) = some 3; decide +kernel⟩ hR (x_recv hK hH) rfl hsum hdg hf k
end CR_X_within
/-! CapCouncil.write ([II)V -/
def X_write_ahead (st : XS) (a2 : Int32) : Option XS :=
  (xast st 7 560 a2 (xi st 7)).bind fun s1 =>
  (xast s1 7 560 (a2 + (1 : Int32)) (xi s1 8)).bind fun s2 =>
  (bs_cp (xa s2 5) 6 (xa s2 7) 560 (0 : Int32) (a2 + (2 : Int32)) (6 : Int32)).bind fun f3 =>
  bs_let (sxa s2 7 f3) fun s4 =>
  (bs_cp (xa s4 6) 6 (xa s4 7) 560 (0 : Int32) (a2 + (8 : Int32)) (6 : Int32)).bind fun f5 =>
  bs_let (sxa s4 7 f5) fun s6 =>
  some s6
def rm_X_write_ahead : Room := { frames := 1, cells := 0, slots := 0, locals := 60 }
set_option maxHeartbeats 4000000 in
set_option maxRecDepth 100000 in
theorem met_X_write_ahead (l : Launch) (D : va_G) (ct : Nat → ClassId) (a : XA) (ρ : Option Nat) (sz : Nat) (st : XS) (a2 : Int32) (z : XS) (hd : X_write_ahead st a2 = some z) : Met l yX0_write (ws_ yX0_write cX0_write 3 none) rm_X_write_ahead (GPre gEX D ct (xAs a) (WX ct a ρ st) sz [.ref (ah a 0), .ref (ah a 12), .int a2]) (GQv D (xAs a) (xAs a) (WX ct a ρ z) sz) 0 0 (gA (xAs a) sz) := by
  refine g_met (cc := cX0_write) (maxL := 3) (ret := none) (by decide) (Nat.le_of_ble_eq_true rfl) ?_
  intro p e U m args below meth c ls S hr hlk hK hH hE hsz hl
  have S : CallFix p m c cX0_write 3 U args lw_all RX0 := S
  have hx := S.1
  have hb := S.2.1
  have hl : lv_has ls 3 [(0, .ref (ah a 0)), (1, .ref (ah a 12)), (2, .int a2)] := hl
  unfold X_write_ahead at hd
  refine lv_aload_n (pc := 0) hx hb dX0_write_0 rfl (lv_at hl 1 rfl) ?_
  refine lv_iload_n (pc := 1) hx hb dX0_write_1 rfl (lv_at hl 2 rfl) ?_
  refine lv_aload_n (pc := 2) hx hb dX0_write_2 rfl (lv_at hl 0 rfl) ?_
  refine xg_yearNow (pc := 3) S hK hH dX0_write_3 ?_
  obtain ⟨s1, hs1, hd⟩ := bs_bd hd
  refine xs_ahead (pc := 6) S hK hH hs1 dX0_write_6 (fun H locs hH => ?_)
  refine lv_aload_n (pc := 7) hx hb dX0_write_7 rfl (lv_at hl 1 rfl) ?_
  refine lv_iload_n (pc := 8) hx hb dX0_write_8 rfl (lv_at hl 2 rfl) ?_
  refine lv_iconst (v := (1 : Int32)) (pc := 9) hx hb dX0_write_9 (by decide) ?_
  refine lv_iadd (pc := 10) hx hb dX0_write_10 ?_
  refine lv_aload_n (pc := 11) hx hb dX0_write_11 rfl (lv_at hl 0 rfl) ?_
  refine xg_up (pc := 12) S hK hH dX0_write_12 ?_
  obtain ⟨s2, hs2, hd⟩ := bs_bd hd
  refine xs_ahead (pc := 15) S hK hH hs2 dX0_write_15 (fun H locs hH => ?_)
  refine lv_aload_n (pc := 16) hx hb dX0_write_16 rfl (lv_at hl 0 rfl) ?_
  refine xg_places (pc := 17) S hK hH dX0_write_17 ?_
  refine lv_iconst (v := (0 : Int32)) (pc := 20) hx hb dX0_write_20 (by decide) ?_
  refine lv_aload_n (pc := 21) hx hb dX0_write_21 rfl (lv_at hl 1 rfl) ?_
  refine lv_iload_n (pc := 22) hx hb dX0_write_22 rfl (lv_at hl 2 rfl) ?_
  refine lv_iconst (v := (2 : Int32)) (pc := 23) hx hb dX0_write_23 (by decide) ?_
  refine lv_iadd (pc := 24) hx hb dX0_write_24 ?_
  refine lv_bipush (v := (6 : Int32)) (pc := 25) hx hb dX0_write_25 (by decide) ?_
  obtain ⟨f3, hf3, hd⟩ := bs_bd hd
  obtain ⟨s4, es4, hd⟩ := bs_let_spec hd
  refine xc_places_ahead (pc := 27) S hl hK hH hf3 es4 ⟨Nat.le_of_ble_eq_true rfl, Nat.le_of_ble_eq_true rfl⟩ (by simp [va_rf_cat, vc_int, vc_ref, vc_long]) dX0_write_27 (fun H locs hH => ?_)
  refine lv_aload_n (pc := 30) hx hb dX0_write_30 rfl (lv_at hl 0 rfl) ?_
  refine xg_thoughts (pc := 31) S hK hH dX0_write_31 ?_
  refine lv_iconst (v := (0 : Int32)) (pc := 34) hx hb dX0_write_34 (by decide) ?_
  refine lv_aload_n (pc := 35) hx hb dX0_write_35 rfl (lv_at hl 1 rfl) ?_
  refine lv_iload_n (pc := 36) hx hb dX0_write_36 rfl (lv_at hl 2 rfl) ?_
  refine lv_bipush (v := (8 : Int32)) (pc := 37) hx hb dX0_write_37 (by decide) ?_
  refine lv_iadd (pc := 39) hx hb dX0_write_39 ?_
  refine lv_bipush (v := (6 : Int32)) (pc := 40) hx hb dX0_write_40 (by decide) ?_
  obtain ⟨f5, hf5, hd⟩ := bs_bd hd
  obtain ⟨s6, es6, hd⟩ := bs_let_spec hd
  refine xc_thoughts_ahead (pc := 42) S hl hK hH hf5 es6 ⟨Nat.le_of_ble_eq_true rfl, Nat.le_of_ble_eq_true rfl⟩ (by simp [va_rf_cat, vc_int, vc_ref, vc_long]) dX0_write_42 (fun H locs hH => ?_)
  exact g_vret (WX ct a ρ) hd S hr hlk hH dX0_write_45
section CR_X_write_ahead
variable {p : Program} {l : Launch} {e : Env} {R : Room} {s : State} {m : MethodId} {args : Array Value} {below : List Frame} {meth : Method} {c : Code} {H : Heap} {locs : List Loc} {cells slots : Nat} {Q : State → Prop}
variable {cc : ByteArray} {pc nL idx : Nat} {ls : Array Slot} {rest : List Value} {lv : List (Nat × Value)} {A : Nat → Prop} {H0 : Heap} {own : String}
theorem call_X_write_ahead {D : va_G} {ct : Nat → ClassId} {a : XA} {ρ : Option Nat} {st : XS} {a2 : Int32} {z : XS} (S : CallFix p m c cc nL s args lw_all own) (hl : lv_has ls nL lv) (hE : gEX s) (hK : va_K D clA (tysG ct) s) (hH : GH D A (xAs a) H0 (WX ct a ρ st) H locs) (hlk : Cond.methodLink own idx yX0_write ∈ lw_all) (hv : X_write_ahead st a2 = some z) (hR : 2 ≤ R.frames ∧ 82 ≤ R.locals) (hsum : (rest.map fun v => v.category).sum ≤ 8) (hdg : decode cc pc = .ok (.invokevirtual idx, 3)) (hf : cells ≤ R.cells ∧ slots ≤ R.slots)
    (k : ∀ (H1 : Heap) (locs1 : List Loc), GH D A (xAs a) H0 (WX ct a ρ z) H1 locs1 → W p l e R s m args below meth c H1 locs1 cells slots Q (F0 m (pc + 3) ls (rest))) : W p l e R s m args below meth c H locs cells slots Q (F0 m pc ls (.int a2 :: .ref (ah a 12) :: .ref (ah a 0) :: rest)) :=
  g_callv (av := [.ref (ah a 12), .int a2]) S hl gEX_ok hE hK hH (met_X_write_ahead l D ct a ρ H.size st a2 z hv) (lw_V hlk q663 qs21 q69 q664) rfl rfl ⟨rfl, by decide, by decide, by show (parseMethodDescriptor yX0_write.desc).map (fun d => d.parameters.length) = some 2; decide +kernel⟩ hR (x_recv hK hH) (fun _ h => Or.inl h) rfl hsum hdg hf k
end CR_X_write_ahead
/-! CapCouncil.note ()V -/
def X_note (st : XS) : Option XS :=
  (X_write_ahead st ((14 : Int32) * (xi st 9))).bind fun q1 =>
  bs_let ((xi q1 9) + (1 : Int32)) fun w2 =>
  bs_let (sxi q1 9 w2) fun s3 =>
  some s3
def rm_X_note : Room := { frames := 2, cells := 0, slots := 0, locals := 82 }
set_option maxHeartbeats 4000000 in
set_option maxRecDepth 100000 in
theorem met_X_note (l : Launch) (D : va_G) (ct : Nat → ClassId) (a : XA) (ρ : Option Nat) (sz : Nat) (st : XS) (z : XS) (hd : X_note st = some z) : Met l yX0_note (ws_ yX0_note cX0_note 1 none) rm_X_note (GPre gEX D ct (xAs a) (WX ct a ρ st) sz [.ref (ah a 0)]) (GQv D (xAs a) (xAs a) (WX ct a ρ z) sz) 0 0 (gA (xAs a) sz) := by
  refine g_met (cc := cX0_note) (maxL := 1) (ret := none) (by decide) (Nat.le_of_ble_eq_true rfl) ?_
  intro p e U m args below meth c ls S hr hlk hK hH hE hsz hl
  have S : CallFix p m c cX0_note 1 U args lw_all RX0 := S
  have hx := S.1
  have hb := S.2.1
  have hl : lv_has ls 1 [(0, .ref (ah a 0))] := hl
  unfold X_note at hd
  refine lv_aload_n (pc := 0) hx hb dX0_note_0 rfl (lv_at hl 0 rfl) ?_
  refine lv_aload_n (pc := 1) hx hb dX0_note_1 rfl (lv_at hl 0 rfl) ?_
  refine xg_ahead (pc := 2) S hK hH dX0_note_2 ?_
  refine lv_bipush (v := (14 : Int32)) (pc := 5) hx hb dX0_note_5 (by decide) ?_
  refine lv_aload_n (pc := 7) hx hb dX0_note_7 rfl (lv_at hl 0 rfl) ?_
  refine xg_deedMany (pc := 8) S hK hH dX0_note_8 ?_
  refine lv_imul (pc := 11) hx hb dX0_note_11 ?_
  obtain ⟨q1, hq1, hd⟩ := bs_bd hd
  refine call_X_write_ahead (pc := 12) S hl hE hK hH q661 hq1 ⟨Nat.le_of_ble_eq_true rfl, Nat.le_of_ble_eq_true rfl⟩ (Nat.le_of_ble_eq_true rfl) dX0_note_12 ⟨Nat.zero_le _, Nat.zero_le _⟩ (fun H locs hH => ?_)
  refine lv_aload_n (pc := 15) hx hb dX0_note_15 rfl (lv_at hl 0 rfl) ?_
  refine lv_dup (pc := 16) hx hb dX0_note_16 rfl ?_
  refine xg_deedMany (pc := 17) S hK hH dX0_note_17 ?_
  refine lv_iconst (v := (1 : Int32)) (pc := 20) hx hb dX0_note_20 (by decide) ?_
  refine lv_iadd (pc := 21) hx hb dX0_note_21 ?_
  obtain ⟨w2, ew2, hd⟩ := bs_let_spec hd
  refine lv_topE (pc := 22) ew2 ?_
  obtain ⟨s3, es3, hd⟩ := bs_let_spec hd
  refine xp_deedMany (pc := 22) S hK hH dX0_note_22 es3 (fun H locs hH => ?_)
  exact g_vret (WX ct a ρ) hd S hr hlk hH dX0_note_25
section CR_X_note
variable {p : Program} {l : Launch} {e : Env} {R : Room} {s : State} {m : MethodId} {args : Array Value} {below : List Frame} {meth : Method} {c : Code} {H : Heap} {locs : List Loc} {cells slots : Nat} {Q : State → Prop}
variable {cc : ByteArray} {pc nL idx : Nat} {ls : Array Slot} {rest : List Value} {lv : List (Nat × Value)} {A : Nat → Prop} {H0 : Heap} {own : String}
theorem call_X_note {D : va_G} {ct : Nat → ClassId} {a : XA} {ρ : Option Nat} {st : XS} {z : XS} (S : CallFix p m c cc nL s args lw_all own) (hl : lv_has ls nL lv) (hE : gEX s) (hK : va_K D clA (tysG ct) s) (hH : GH D A (xAs a) H0 (WX ct a ρ st) H locs) (hlk : Cond.methodLink own idx yX0_note ∈ lw_all) (hv : X_note st = some z) (hR : 3 ≤ R.frames ∧ 102 ≤ R.locals) (hsum : (rest.map fun v => v.category).sum ≤ 8) (hdg : decode cc pc = .ok (.invokevirtual idx, 3)) (hf : cells ≤ R.cells ∧ slots ≤ R.slots)
    (k : ∀ (H1 : Heap) (locs1 : List Loc), GH D A (xAs a) H0 (WX ct a ρ z) H1 locs1 → W p l e R s m args below meth c H1 locs1 cells slots Q (F0 m (pc + 3) ls (rest))) : W p l e R s m args below meth c H locs cells slots Q (F0 m pc ls (.ref (ah a 0) :: rest)) :=
  g_callv (av := []) S hl gEX_ok hE hK hH (met_X_note l D ct a ρ H.size st z hv) (lw_V hlk q659 qs20 q69 q660) rfl rfl ⟨rfl, by decide, by decide, by show (parseMethodDescriptor yX0_note.desc).map (fun d => d.parameters.length) = some 0; decide +kernel⟩ hR (x_recv hK hH) (fun _ h => Or.inl h) rfl hsum hdg hf k
end CR_X_note
/-! CapCouncil.seated ()I -/
def X_seated_L4 (st : XS) : Nat → Int32 → Int32 → Option Int32
  | 0, _, _ => none
  | n + 1, x1, x2 =>
    if (xi st 3) ≤ x2 then
      (some x1)
    else
      ((bs_ld (xa st 5) 6 x2).bind fun v2 =>
      (X_ringsAt st v2).bind fun v3 =>
      if v3 = 0 then
        (bs_let (x1 ||| (0 : Int32)) fun w5 =>
        bs_let (x2 + (1 : Int32)) fun w6 =>
        X_seated_L4 st n w5 w6)
      else
        (bs_let (x1 ||| ((1 : Int32) <<< (x2 &&& 31))) fun w7 =>
        bs_let (x2 + (1 : Int32)) fun w8 =>
        X_seated_L4 st n w7 w8))
def X_seated (st : XS) : Option Int32 :=
  X_seated_L4 st bs_fu (0 : Int32) (0 : Int32)
def rm_X_seated : Room := { frames := 6, cells := 0, slots := 0, locals := 166 }
set_option maxHeartbeats 4000000 in
set_option maxRecDepth 100000 in
theorem met_X_seated (l : Launch) (D : va_G) (ct : Nat → ClassId) (a : XA) (ρ : Option Nat) (sz : Nat) (st : XS) (z : Int32) (hd : X_seated st = some z) : Met l yX0_seated (ws_ yX0_seated cX0_seated 3 (some .int)) rm_X_seated (GPre gEX D ct (xAs a) (WX ct a ρ st) sz [.ref (ah a 0)]) (vp_Si (fun r => r = z)) 0 0 (fun _ => False) := by
  refine g_met (cc := cX0_seated) (maxL := 3) (ret := (some .int)) (by decide) (Nat.le_of_ble_eq_true rfl) ?_
  intro p e U m args below meth c ls S hr hlk hK hH hE hsz hl
  have S : CallFix p m c cX0_seated 3 U args lw_all RX0 := S
  have hx := S.1
  have hb := S.2.1
  have hl : lv_has ls 3 [(0, .ref (ah a 0))] := hl
  have h4 : ∀ (n4 : Nat) (x1 : Int32) (x2 : Int32) (ls : Array Slot), lv_has ls 3 [(0, .ref (ah a 0)), (1, .int x1), (2, .int x2)] → X_seated_L4 st n4 x1 x2 = some z → W p l e rm_X_seated U m args below meth c U.heap [] 0 0 (MQ below (vp_Si (fun r => r = z)) args U 0 0 (fun _ => False)) (F0 m 4 ls []) := by
    intro n4
    induction n4 with
    | zero =>
      intro x1 x2 ls hl hd
      rw [X_seated_L4] at hd
      cases hd
    | succ n4 ih4 =>
      intro x1 x2 ls hl hd
      rw [X_seated_L4] at hd
      refine lv_iload_n (pc := 4) hx hb dX0_seated_4 rfl (lv_at hl 2 rfl) ?_
      refine lv_aload_n (pc := 5) hx hb dX0_seated_5 rfl (lv_at hl 0 rfl) ?_
      refine xg_bedMany (pc := 6) S hK hH dX0_seated_6 ?_
      refine lv_icmp_ge (pc := 9) (tgt := 41) hx hb dX0_seated_9 (by decide) (fun c1 => ?_) (fun c1 => ?_)
      · have hd := if_t c1 hd
        refine lv_iload_n (pc := 41) hx hb dX0_seated_41 rfl (lv_at hl 1 rfl) ?_
        exact r_iret hd S hr hlk dX0_seated_42
      · have hd := if_n c1 hd
        refine lv_iload_n (pc := 12) hx hb dX0_seated_12 rfl (lv_at hl 1 rfl) ?_
        refine lv_aload_n (pc := 13) hx hb dX0_seated_13 rfl (lv_at hl 0 rfl) ?_
        refine lv_aload_n (pc := 14) hx hb dX0_seated_14 rfl (lv_at hl 0 rfl) ?_
        refine xg_places (pc := 15) S hK hH dX0_seated_15 ?_
        refine lv_iload_n (pc := 18) hx hb dX0_seated_18 rfl (lv_at hl 2 rfl) ?_
        obtain ⟨v2, hv2, hd⟩ := bs_bd hd
        refine xl_places (pc := 19) S hK hH hv2 dX0_seated_19 ?_
        obtain ⟨v3, hv3, hd⟩ := bs_bd hd
        refine call_X_ringsAt (pc := 20) S hl hE hK hH q577 hv3 ⟨Nat.le_of_ble_eq_true rfl, Nat.le_of_ble_eq_true rfl⟩ (Nat.le_of_ble_eq_true rfl) dX0_seated_20 ⟨Nat.zero_le _, Nat.zero_le _⟩ ?_
        refine lv_if_eq (pc := 23) (tgt := 32) hx hb dX0_seated_23 (by decide) (fun c4 => ?_) (fun c4 => ?_)
        · have hd := if_t c4 hd
          refine lv_iconst (v := (0 : Int32)) (pc := 32) hx hb dX0_seated_32 (by decide) ?_
          refine lv_ior (pc := 33) hx hb dX0_seated_33 ?_
          obtain ⟨w5, ew5, hd⟩ := bs_let_spec hd
          refine lv_topE (pc := 34) ew5 ?_
          refine lv_istore_n (pc := 34) (lv' := [(1, .int w5), (0, .ref (ah a 0)), (2, .int x2)]) hx hb dX0_seated_34 rfl hl (by decide) rfl (fun ls hl => ?_)
          obtain ⟨w6, ew6, hd⟩ := bs_let_spec hd
          refine lv_iinc (pc := 35) (v := w6) (lv' := [(2, .int w6), (1, .int w5), (0, .ref (ah a 0))]) hx hb dX0_seated_35 hl (k := 2) rfl (by rw [ew6]; rfl) (by decide) rfl (fun ls hl => ?_)
          refine lv_goto (pc := 38) (tgt := 4) hx hb dX0_seated_38 (by decide) ?_
          exact ih4 w5 w6 _ (lv_sub hl [2, 1, 0] rfl) hd
        · have hd := if_n c4 hd
          refine lv_iconst (v := (1 : Int32)) (pc := 26) hx hb dX0_seated_26 (by decide) ?_
          refine lv_iload_n (pc := 27) hx hb dX0_seated_27 rfl (lv_at hl 2 rfl) ?_
          refine lv_ishl (pc := 28) hx hb dX0_seated_28 ?_
          refine lv_goto (pc := 29) (tgt := 33) hx hb dX0_seated_29 (by decide) ?_
          refine lv_ior (pc := 33) hx hb dX0_seated_33 ?_
          obtain ⟨w7, ew7, hd⟩ := bs_let_spec hd
          refine lv_topE (pc := 34) ew7 ?_
          refine lv_istore_n (pc := 34) (lv' := [(1, .int w7), (0, .ref (ah a 0)), (2, .int x2)]) hx hb dX0_seated_34 rfl hl (by decide) rfl (fun ls hl => ?_)
          obtain ⟨w8, ew8, hd⟩ := bs_let_spec hd
          refine lv_iinc (pc := 35) (v := w8) (lv' := [(2, .int w8), (1, .int w7), (0, .ref (ah a 0))]) hx hb dX0_seated_35 hl (k := 2) rfl (by rw [ew8]; rfl) (by decide) rfl (fun ls hl => ?_)
          refine lv_goto (pc := 38) (tgt := 4) hx hb dX0_seated_38 (by decide) ?_
          exact ih4 w7 w8 _ (lv_sub hl [2, 1, 0] rfl) hd
  unfold X_seated at hd
  refine lv_iconst (v := (0 : Int32)) (pc := 0) hx hb dX0_seated_0 (by decide) ?_
  refine lv_istore_n (pc := 1) (lv' := [(1, .int (0 : Int32)), (0, .ref (ah a 0))]) hx hb dX0_seated_1 rfl hl (by decide) rfl (fun ls hl => ?_)
  refine lv_iconst (v := (0 : Int32)) (pc := 2) hx hb dX0_seated_2 (by decide) ?_
  refine lv_istore_n (pc := 3) (lv' := [(2, .int (0 : Int32)), (1, .int (0 : Int32)), (0, .ref (ah a 0))]) hx hb dX0_seated_3 rfl hl (by decide) rfl (fun ls hl => ?_)
  exact h4 bs_fu (0 : Int32) (0 : Int32) _ (lv_sub hl [2, 1, 0] rfl) hd
section CR_X_seated
variable {p : Program} {l : Launch} {e : Env} {R : Room} {s : State} {m : MethodId} {args : Array Value} {below : List Frame} {meth : Method} {c : Code} {H : Heap} {locs : List Loc} {cells slots : Nat} {Q : State → Prop}
variable {cc : ByteArray} {pc nL idx : Nat} {ls : Array Slot} {rest : List Value} {lv : List (Nat × Value)} {A : Nat → Prop} {H0 : Heap} {own : String}
theorem call_X_seated {D : va_G} {ct : Nat → ClassId} {a : XA} {ρ : Option Nat} {st : XS} {z : Int32} (S : CallFix p m c cc nL s args lw_all own) (hl : lv_has ls nL lv) (hE : gEX s) (hK : va_K D clA (tysG ct) s) (hH : GH D A (xAs a) H0 (WX ct a ρ st) H locs) (hlk : Cond.methodLink own idx yX0_seated ∈ lw_all) (hv : X_seated st = some z) (hR : 7 ≤ R.frames ∧ 188 ≤ R.locals) (hsum : (rest.map fun v => v.category).sum ≤ 8) (hdg : decode cc pc = .ok (.invokevirtual idx, 3)) (hf : cells ≤ R.cells ∧ slots ≤ R.slots)
    (k : W p l e R s m args below meth c H locs cells slots Q (F0 m (pc + 3) ls (.int z :: rest))) : W p l e R s m args below meth c H locs cells slots Q (F0 m pc ls (.ref (ah a 0) :: rest)) :=
  r_calli (av := []) S hl gEX_ok hE hK hH (met_X_seated l D ct a ρ H.size st z hv) (lw_V hlk q667 qs22 q69 q668) rfl rfl ⟨rfl, by decide, by decide, by show (parseMethodDescriptor yX0_seated.desc).map (fun d => d.parameters.length) = some 0; decide +kernel⟩ hR (x_recv hK hH) rfl hsum hdg hf k
end CR_X_seated
/-! java/lang/Integer.bitCount (I)I -/
def J11_bitCount (a0 : Int32) : Option Int32 :=
  bs_let (a0 - ((((a0).toUInt32 >>> (((1 : Int32)).toUInt32 &&& Int32.toUInt32 31)).toInt32) &&& (1431655765 : Int32))) fun w1 =>
  bs_let ((w1 &&& (858993459 : Int32)) + ((((w1).toUInt32 >>> (((2 : Int32)).toUInt32 &&& Int32.toUInt32 31)).toInt32) &&& (858993459 : Int32))) fun w2 =>
  bs_let ((w2 + (((w2).toUInt32 >>> (((4 : Int32)).toUInt32 &&& Int32.toUInt32 31)).toInt32)) &&& (252645135 : Int32)) fun w3 =>
  bs_let (w3 + (((w3).toUInt32 >>> (((8 : Int32)).toUInt32 &&& Int32.toUInt32 31)).toInt32)) fun w4 =>
  bs_let (w4 + (((w4).toUInt32 >>> (((16 : Int32)).toUInt32 &&& Int32.toUInt32 31)).toInt32)) fun w5 =>
  some (w5 &&& (63 : Int32))
def rm_J11_bitCount : Room := { frames := 0, cells := 0, slots := 0, locals := 0 }
set_option maxHeartbeats 4000000 in
set_option maxRecDepth 100000 in
theorem met_J11_bitCount (l : Launch) (a0 : Int32) (z : Int32) (hd : J11_bitCount a0 = some z) : Met l yJ11_bitCount (ws_ yJ11_bitCount cJ11_bitCount 1 (some .int)) rm_J11_bitCount (va_Pc [.int a0] (fun _ => True)) (vp_Si (fun r => r = z)) 0 0 (fun _ => False) := by
  refine p_met (cc := cJ11_bitCount) (maxL := 1) (ret := (some .int)) (by decide) (Nat.le_of_ble_eq_true rfl) ?_
  intro p e U m args below meth c ls S hr hlk hl
  have S : CallFix p m c cJ11_bitCount 1 U args lw_all RJ11 := S
  have hx := S.1
  have hb := S.2.1
  have hl : lv_has ls 1 [(0, .int a0)] := hl
  unfold J11_bitCount at hd
  refine lv_iload_n (pc := 0) hx hb dJ11_bitCount_0 rfl (lv_at hl 0 rfl) ?_
  refine lv_iload_n (pc := 1) hx hb dJ11_bitCount_1 rfl (lv_at hl 0 rfl) ?_
  refine lv_iconst (v := (1 : Int32)) (pc := 2) hx hb dJ11_bitCount_2 (by decide) ?_
  refine lv_iushr (pc := 3) hx hb dJ11_bitCount_3 rfl ?_
  refine lv_ldcw (pc := 4) (own := RJ11) (v := (1431655765 : Int32)) hx hb S.2.2.2.1 (S.2.2.2.2 _ q672) dJ11_bitCount_4 ?_
  refine lv_iand (pc := 7) hx hb dJ11_bitCount_7 ?_
  refine lv_isub (pc := 8) hx hb dJ11_bitCount_8 ?_
  obtain ⟨w1, ew1, hd⟩ := bs_let_spec hd
  refine lv_topE (pc := 9) ew1 ?_
  refine lv_istore_n (pc := 9) (lv' := [(0, .int w1)]) hx hb dJ11_bitCount_9 rfl hl (by decide) rfl (fun ls hl => ?_)
  refine lv_iload_n (pc := 10) hx hb dJ11_bitCount_10 rfl (lv_at hl 0 rfl) ?_
  refine lv_ldcw (pc := 11) (own := RJ11) (v := (858993459 : Int32)) hx hb S.2.2.2.1 (S.2.2.2.2 _ q673) dJ11_bitCount_11 ?_
  refine lv_iand (pc := 14) hx hb dJ11_bitCount_14 ?_
  refine lv_iload_n (pc := 15) hx hb dJ11_bitCount_15 rfl (lv_at hl 0 rfl) ?_
  refine lv_iconst (v := (2 : Int32)) (pc := 16) hx hb dJ11_bitCount_16 (by decide) ?_
  refine lv_iushr (pc := 17) hx hb dJ11_bitCount_17 rfl ?_
  refine lv_ldcw (pc := 18) (own := RJ11) (v := (858993459 : Int32)) hx hb S.2.2.2.1 (S.2.2.2.2 _ q673) dJ11_bitCount_18 ?_
  refine lv_iand (pc := 21) hx hb dJ11_bitCount_21 ?_
  refine lv_iadd (pc := 22) hx hb dJ11_bitCount_22 ?_
  obtain ⟨w2, ew2, hd⟩ := bs_let_spec hd
  refine lv_topE (pc := 23) ew2 ?_
  refine lv_istore_n (pc := 23) (lv' := [(0, .int w2)]) hx hb dJ11_bitCount_23 rfl hl (by decide) rfl (fun ls hl => ?_)
  refine lv_iload_n (pc := 24) hx hb dJ11_bitCount_24 rfl (lv_at hl 0 rfl) ?_
  refine lv_iload_n (pc := 25) hx hb dJ11_bitCount_25 rfl (lv_at hl 0 rfl) ?_
  refine lv_iconst (v := (4 : Int32)) (pc := 26) hx hb dJ11_bitCount_26 (by decide) ?_
  refine lv_iushr (pc := 27) hx hb dJ11_bitCount_27 rfl ?_
  refine lv_iadd (pc := 28) hx hb dJ11_bitCount_28 ?_
  refine lv_ldcw (pc := 29) (own := RJ11) (v := (252645135 : Int32)) hx hb S.2.2.2.1 (S.2.2.2.2 _ q674) dJ11_bitCount_29 ?_
  refine lv_iand (pc := 32) hx hb dJ11_bitCount_32 ?_
  obtain ⟨w3, ew3, hd⟩ := bs_let_spec hd
  refine lv_topE (pc := 33) ew3 ?_
  refine lv_istore_n (pc := 33) (lv' := [(0, .int w3)]) hx hb dJ11_bitCount_33 rfl hl (by decide) rfl (fun ls hl => ?_)
  refine lv_iload_n (pc := 34) hx hb dJ11_bitCount_34 rfl (lv_at hl 0 rfl) ?_
  refine lv_iload_n (pc := 35) hx hb dJ11_bitCount_35 rfl (lv_at hl 0 rfl) ?_
  refine lv_bipush (v := (8 : Int32)) (pc := 36) hx hb dJ11_bitCount_36 (by decide) ?_
  refine lv_iushr (pc := 38) hx hb dJ11_bitCount_38 rfl ?_
  refine lv_iadd (pc := 39) hx hb dJ11_bitCount_39 ?_
  obtain ⟨w4, ew4, hd⟩ := bs_let_spec hd
  refine lv_topE (pc := 40) ew4 ?_
  refine lv_istore_n (pc := 40) (lv' := [(0, .int w4)]) hx hb dJ11_bitCount_40 rfl hl (by decide) rfl (fun ls hl => ?_)
  refine lv_iload_n (pc := 41) hx hb dJ11_bitCount_41 rfl (lv_at hl 0 rfl) ?_
  refine lv_iload_n (pc := 42) hx hb dJ11_bitCount_42 rfl (lv_at hl 0 rfl) ?_
  refine lv_bipush (v := (16 : Int32)) (pc := 43) hx hb dJ11_bitCount_43 (by decide) ?_
  refine lv_iushr (pc := 45) hx hb dJ11_bitCount_45 rfl ?_
  refine lv_iadd (pc := 46) hx hb dJ11_bitCount_46 ?_
  obtain ⟨w5, ew5, hd⟩ := bs_let_spec hd
  refine lv_topE (pc := 47) ew5 ?_
  refine lv_istore_n (pc := 47) (lv' := [(0, .int w5)]) hx hb dJ11_bitCount_47 rfl hl (by decide) rfl (fun ls hl => ?_)
  refine lv_iload_n (pc := 48) hx hb dJ11_bitCount_48 rfl (lv_at hl 0 rfl) ?_
  refine lv_bipush (v := (63 : Int32)) (pc := 49) hx hb dJ11_bitCount_49 (by decide) ?_
  refine lv_iand (pc := 51) hx hb dJ11_bitCount_51 ?_
  exact r_iret hd S hr hlk dJ11_bitCount_52
section CR_J11_bitCount
variable {p : Program} {l : Launch} {e : Env} {R : Room} {s : State} {m : MethodId} {args : Array Value} {below : List Frame} {meth : Method} {c : Code} {H : Heap} {locs : List Loc} {cells slots : Nat} {Q : State → Prop}
variable {cc : ByteArray} {pc nL idx : Nat} {ls : Array Slot} {rest : List Value} {lv : List (Nat × Value)} {A : Nat → Prop} {H0 : Heap} {own : String}
theorem call_J11_bitCount {a0 : Int32} {z : Int32} (S : CallFix p m c cc nL s args lw_all own) (hl : lv_has ls nL lv) (hlk : Cond.methodLink own idx yJ11_bitCount ∈ lw_all) (hv : J11_bitCount a0 = some z) (hR : 1 ≤ R.frames ∧ 20 ≤ R.locals) (hsum : (rest.map fun v => v.category).sum ≤ 8) (hdg : decode cc pc = .ok (.invokestatic idx, 3)) (hf : cells ≤ R.cells ∧ slots ≤ R.slots)
    (k : W p l e R s m args below meth c H locs cells slots Q (F0 m (pc + 3) ls (.int z :: rest))) : W p l e R s m args below meth c H locs cells slots Q (F0 m pc ls (.int a0 :: rest)) :=
  p_calli (av := [.int a0]) S hl (met_J11_bitCount l a0 z hv) (lw_S hlk q670 q89 q671) rfl rfl ⟨by decide, by decide, by show (parseMethodDescriptor yJ11_bitCount.desc).map (fun d => d.parameters.length) = some 1; decide +kernel⟩ hR rfl hsum hdg hf k
end CR_J11_bitCount
