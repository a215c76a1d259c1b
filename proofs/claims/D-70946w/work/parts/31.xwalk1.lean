set_option maxRecDepth 100000
/-! CapCouncil.year ()I -/
def X_year (st : XS) : Option (XS × Int32) :=
  if (xi st 2) = 0 then
    (some (st, (-4 : Int32)))
  else
    (if (xi st 7) = (40 : Int32) then
      (some (st, (-4 : Int32)))
    else
      (if (xi st 9) = (40 : Int32) then
        (some (st, (-2 : Int32)))
      else
        ((X_note st).bind fun q4 =>
        bs_let ((xi q4 7) + (1 : Int32)) fun w5 =>
        bs_let (sxi q4 7 w5) fun s6 =>
        (X_seated s6).bind fun v7 =>
        (J11_bitCount v7).bind fun v8 =>
        some (s6, v8))))
def rm_X_year : Room := { frames := 7, cells := 0, slots := 0, locals := 188 }
set_option maxHeartbeats 4000000 in
set_option maxRecDepth 100000 in
theorem met_X_year (l : Launch) (D : va_G) (ct : Nat → ClassId) (a : XA) (ρ : Option Nat) (sz : Nat) (st : XS) (z : (XS × Int32)) (hd : X_year st = some z) : Met l yX0_year (ws_ yX0_year cX0_year 1 (some .int)) rm_X_year (GPre gEX D ct (xAs a) (WX ct a ρ st) sz [.ref (ah a 0)]) (GQi D (xAs a) (xAs a) (WX ct a ρ z.1) sz z.2) 0 0 (gA (xAs a) sz) := by
  refine g_met (cc := cX0_year) (maxL := 1) (ret := (some .int)) (by decide) (Nat.le_of_ble_eq_true rfl) ?_
  intro p e U m args below meth c ls S hr hlk hK hH hE hsz hl
  have S : CallFix p m c cX0_year 1 U args lw_all RX0 := S
  have hx := S.1
  have hb := S.2.1
  have hl : lv_has ls 1 [(0, .ref (ah a 0))] := hl
  unfold X_year at hd
  refine lv_aload_n (pc := 0) hx hb dX0_year_0 rfl (lv_at hl 0 rfl) ?_
  refine xg_ringMany (pc := 1) S hK hH dX0_year_1 ?_
  refine lv_if_eq (pc := 4) (tgt := 16) hx hb dX0_year_4 (by decide) (fun c1 => ?_) (fun c1 => ?_)
  · have hd := if_t c1 hd
    refine lv_bipush (v := (-4 : Int32)) (pc := 16) hx hb dX0_year_16 (by decide) ?_
    exact g_iret (WX ct a ρ) hd S hr hlk hH dX0_year_18
  · have hd := if_n c1 hd
    refine lv_aload_n (pc := 7) hx hb dX0_year_7 rfl (lv_at hl 0 rfl) ?_
    refine xg_yearNow (pc := 8) S hK hH dX0_year_8 ?_
    refine lv_bipush (v := (40 : Int32)) (pc := 11) hx hb dX0_year_11 (by decide) ?_
    refine lv_icmp_ne (pc := 13) (tgt := 19) hx hb dX0_year_13 (by decide) (fun c2 => ?_) (fun c2 => ?_)
    · have hd := if_n c2 hd
      refine lv_aload_n (pc := 19) hx hb dX0_year_19 rfl (lv_at hl 0 rfl) ?_
      refine xg_deedMany (pc := 20) S hK hH dX0_year_20 ?_
      refine lv_bipush (v := (40 : Int32)) (pc := 23) hx hb dX0_year_23 (by decide) ?_
      refine lv_icmp_ne (pc := 25) (tgt := 31) hx hb dX0_year_25 (by decide) (fun c3 => ?_) (fun c3 => ?_)
      · have hd := if_n c3 hd
        refine lv_aload_n (pc := 31) hx hb dX0_year_31 rfl (lv_at hl 0 rfl) ?_
        obtain ⟨q4, hq4, hd⟩ := bs_bd hd
        refine call_X_note (pc := 32) S hl hE hK hH q657 hq4 ⟨Nat.le_of_ble_eq_true rfl, Nat.le_of_ble_eq_true rfl⟩ (Nat.le_of_ble_eq_true rfl) dX0_year_32 ⟨Nat.zero_le _, Nat.zero_le _⟩ (fun H locs hH => ?_)
        refine lv_aload_n (pc := 35) hx hb dX0_year_35 rfl (lv_at hl 0 rfl) ?_
        refine lv_dup (pc := 36) hx hb dX0_year_36 rfl ?_
        refine xg_yearNow (pc := 37) S hK hH dX0_year_37 ?_
        refine lv_iconst (v := (1 : Int32)) (pc := 40) hx hb dX0_year_40 (by decide) ?_
        refine lv_iadd (pc := 41) hx hb dX0_year_41 ?_
        obtain ⟨w5, ew5, hd⟩ := bs_let_spec hd
        refine lv_topE (pc := 42) ew5 ?_
        obtain ⟨s6, es6, hd⟩ := bs_let_spec hd
        refine xp_yearNow (pc := 42) S hK hH dX0_year_42 es6 (fun H locs hH => ?_)
        refine lv_aload_n (pc := 45) hx hb dX0_year_45 rfl (lv_at hl 0 rfl) ?_
        obtain ⟨v7, hv7, hd⟩ := bs_bd hd
        refine call_X_seated (pc := 46) S hl hE hK hH q665 hv7 ⟨Nat.le_of_ble_eq_true rfl, Nat.le_of_ble_eq_true rfl⟩ (Nat.le_of_ble_eq_true rfl) dX0_year_46 ⟨Nat.zero_le _, Nat.zero_le _⟩ ?_
        obtain ⟨v8, hv8, hd⟩ := bs_bd hd
        refine call_J11_bitCount (pc := 49) S hl q669 hv8 ⟨Nat.le_of_ble_eq_true rfl, Nat.le_of_ble_eq_true rfl⟩ (Nat.le_of_ble_eq_true rfl) dX0_year_49 ⟨Nat.zero_le _, Nat.zero_le _⟩ ?_
        exact g_iret (WX ct a ρ) hd S hr hlk hH dX0_year_52
      · have hd := if_t c3 hd
        refine lv_bipush (v := (-2 : Int32)) (pc := 28) hx hb dX0_year_28 (by decide) ?_
        exact g_iret (WX ct a ρ) hd S hr hlk hH dX0_year_30
    · have hd := if_t c2 hd
      refine lv_bipush (v := (-4 : Int32)) (pc := 16) hx hb dX0_year_16 (by decide) ?_
      exact g_iret (WX ct a ρ) hd S hr hlk hH dX0_year_18
section CR_X_year
variable {p : Program} {l : Launch} {e : Env} {R : Room} {s : State} {m : MethodId} {args : Array Value} {below : List Frame} {meth : Method} {c : Code} {H : Heap} {locs : List Loc} {cells slots : Nat} {Q : State → Prop}
variable {cc : ByteArray} {pc nL idx : Nat} {ls : Array Slot} {rest : List Value} {lv : List (Nat × Value)} {A : Nat → Prop} {H0 : Heap} {own : String}
theorem call_X_year {D : va_G} {ct : Nat → ClassId} {a : XA} {ρ : Option Nat} {st : XS} {z : (XS × Int32)} (S : CallFix p m c cc nL s args lw_all own) (hl : lv_has ls nL lv) (hE : gEX s) (hK : va_K D clA (tysG ct) s) (hH : GH D A (xAs a) H0 (WX ct a ρ st) H locs) (hlk : Cond.methodLink own idx yX0_year ∈ lw_all) (hv : X_year st = some z) (hR : 8 ≤ R.frames ∧ 208 ≤ R.locals) (hsum : (rest.map fun v => v.category).sum ≤ 8) (hdg : decode cc pc = .ok (.invokevirtual idx, 3)) (hf : cells ≤ R.cells ∧ slots ≤ R.slots)
    (k : ∀ (H1 : Heap) (locs1 : List Loc), GH D A (xAs a) H0 (WX ct a ρ z.1) H1 locs1 → W p l e R s m args below meth c H1 locs1 cells slots Q (F0 m (pc + 3) ls (.int z.2 :: rest))) : W p l e R s m args below meth c H locs cells slots Q (F0 m pc ls (.ref (ah a 0) :: rest)) :=
  g_calli (av := []) S hl gEX_ok hE hK hH (met_X_year l D ct a ρ H.size st z hv) (lw_V hlk q654 q655 q69 q656) rfl rfl ⟨rfl, by decide, by decide, by show (parseMethodDescriptor yX0_year.desc).map (fun d => d.parameters.length) = some 0; decide +kernel⟩ hR (x_recv hK hH) (fun _ h => Or.inl h) rfl hsum hdg hf k
end CR_X_year
/-! CapCouncil.move (II)I -/
def X_move (st : XS) (a1 : Int32) (a2 : Int32) : Option (XS × Int32) :=
  (X_isBed st a1).bind fun v1 =>
  if v1 = 0 then
    (some (st, (-1 : Int32)))
  else
    ((X_isCell a2).bind fun v3 =>
    if v3 = 0 then
      (some (st, (-1 : Int32)))
    else
      ((bs_ld (xa st 5) 6 a1).bind fun v5 =>
      if v5 = a2 then
        (some (st, (-4 : Int32)))
      else
        (if (xi st 9) = (40 : Int32) then
          (some (st, (-2 : Int32)))
        else
          ((X_note st).bind fun q8 =>
          (xast q8 5 6 a1 a2).bind fun s9 =>
          (X_ringsAt s9 a2).bind fun v10 =>
          some (s9, v10)))))
def rm_X_move : Room := { frames := 6, cells := 0, slots := 0, locals := 166 }
set_option maxHeartbeats 4000000 in
set_option maxRecDepth 100000 in
theorem met_X_move (l : Launch) (D : va_G) (ct : Nat → ClassId) (a : XA) (ρ : Option Nat) (sz : Nat) (st : XS) (a1 : Int32) (a2 : Int32) (z : (XS × Int32)) (hd : X_move st a1 a2 = some z) : Met l yX0_move (ws_ yX0_move cX0_move 3 (some .int)) rm_X_move (GPre gEX D ct (xAs a) (WX ct a ρ st) sz [.ref (ah a 0), .int a1, .int a2]) (GQi D (xAs a) (xAs a) (WX ct a ρ z.1) sz z.2) 0 0 (gA (xAs a) sz) := by
  refine g_met (cc := cX0_move) (maxL := 3) (ret := (some .int)) (by decide) (Nat.le_of_ble_eq_true rfl) ?_
  intro p e U m args below meth c ls S hr hlk hK hH hE hsz hl
  have S : CallFix p m c cX0_move 3 U args lw_all RX0 := S
  have hx := S.1
  have hb := S.2.1
  have hl : lv_has ls 3 [(0, .ref (ah a 0)), (1, .int a1), (2, .int a2)] := hl
  unfold X_move at hd
  refine lv_aload_n (pc := 0) hx hb dX0_move_0 rfl (lv_at hl 0 rfl) ?_
  refine lv_iload_n (pc := 1) hx hb dX0_move_1 rfl (lv_at hl 1 rfl) ?_
  obtain ⟨v1, hv1, hd⟩ := bs_bd hd
  refine call_X_isBed (pc := 2) S hl hE hK hH q569 hv1 ⟨Nat.le_of_ble_eq_true rfl, Nat.le_of_ble_eq_true rfl⟩ (Nat.le_of_ble_eq_true rfl) dX0_move_2 ⟨Nat.zero_le _, Nat.zero_le _⟩ ?_
  refine lv_if_eq (pc := 5) (tgt := 15) hx hb dX0_move_5 (by decide) (fun c2 => ?_) (fun c2 => ?_)
  · have hd := if_t c2 hd
    refine lv_iconst (v := (-1 : Int32)) (pc := 15) hx hb dX0_move_15 (by decide) ?_
    exact g_iret (WX ct a ρ) hd S hr hlk hH dX0_move_16
  · have hd := if_n c2 hd
    refine lv_iload_n (pc := 8) hx hb dX0_move_8 rfl (lv_at hl 2 rfl) ?_
    obtain ⟨v3, hv3, hd⟩ := bs_bd hd
    refine call_X_isCell (pc := 9) S hl q650 hv3 ⟨Nat.le_of_ble_eq_true rfl, Nat.le_of_ble_eq_true rfl⟩ (Nat.le_of_ble_eq_true rfl) dX0_move_9 ⟨Nat.zero_le _, Nat.zero_le _⟩ ?_
    refine lv_if_ne (pc := 12) (tgt := 17) hx hb dX0_move_12 (by decide) (fun c4 => ?_) (fun c4 => ?_)
    · have hd := if_n c4 hd
      refine lv_aload_n (pc := 17) hx hb dX0_move_17 rfl (lv_at hl 0 rfl) ?_
      refine xg_places (pc := 18) S hK hH dX0_move_18 ?_
      refine lv_iload_n (pc := 21) hx hb dX0_move_21 rfl (lv_at hl 1 rfl) ?_
      obtain ⟨v5, hv5, hd⟩ := bs_bd hd
      refine xl_places (pc := 22) S hK hH hv5 dX0_move_22 ?_
      refine lv_iload_n (pc := 23) hx hb dX0_move_23 rfl (lv_at hl 2 rfl) ?_
      refine lv_icmp_ne (pc := 24) (tgt := 30) hx hb dX0_move_24 (by decide) (fun c6 => ?_) (fun c6 => ?_)
      · have hd := if_n c6 hd
        refine lv_aload_n (pc := 30) hx hb dX0_move_30 rfl (lv_at hl 0 rfl) ?_
        refine xg_deedMany (pc := 31) S hK hH dX0_move_31 ?_
        refine lv_bipush (v := (40 : Int32)) (pc := 34) hx hb dX0_move_34 (by decide) ?_
        refine lv_icmp_ne (pc := 36) (tgt := 42) hx hb dX0_move_36 (by decide) (fun c7 => ?_) (fun c7 => ?_)
        · have hd := if_n c7 hd
          refine lv_aload_n (pc := 42) hx hb dX0_move_42 rfl (lv_at hl 0 rfl) ?_
          obtain ⟨q8, hq8, hd⟩ := bs_bd hd
          refine call_X_note (pc := 43) S hl hE hK hH q657 hq8 ⟨Nat.le_of_ble_eq_true rfl, Nat.le_of_ble_eq_true rfl⟩ (Nat.le_of_ble_eq_true rfl) dX0_move_43 ⟨Nat.zero_le _, Nat.zero_le _⟩ (fun H locs hH => ?_)
          refine lv_aload_n (pc := 46) hx hb dX0_move_46 rfl (lv_at hl 0 rfl) ?_
          refine xg_places (pc := 47) S hK hH dX0_move_47 ?_
          refine lv_iload_n (pc := 50) hx hb dX0_move_50 rfl (lv_at hl 1 rfl) ?_
          refine lv_iload_n (pc := 51) hx hb dX0_move_51 rfl (lv_at hl 2 rfl) ?_
          obtain ⟨s9, hs9, hd⟩ := bs_bd hd
          refine xs_places (pc := 52) S hK hH hs9 dX0_move_52 (fun H locs hH => ?_)
          refine lv_aload_n (pc := 53) hx hb dX0_move_53 rfl (lv_at hl 0 rfl) ?_
          refine lv_iload_n (pc := 54) hx hb dX0_move_54 rfl (lv_at hl 2 rfl) ?_
          obtain ⟨v10, hv10, hd⟩ := bs_bd hd
          refine call_X_ringsAt (pc := 55) S hl hE hK hH q577 hv10 ⟨Nat.le_of_ble_eq_true rfl, Nat.le_of_ble_eq_true rfl⟩ (Nat.le_of_ble_eq_true rfl) dX0_move_55 ⟨Nat.zero_le _, Nat.zero_le _⟩ ?_
          exact g_iret (WX ct a ρ) hd S hr hlk hH dX0_move_58
        · have hd := if_t c7 hd
          refine lv_bipush (v := (-2 : Int32)) (pc := 39) hx hb dX0_move_39 (by decide) ?_
          exact g_iret (WX ct a ρ) hd S hr hlk hH dX0_move_41
      · have hd := if_t c6 hd
        refine lv_bipush (v := (-4 : Int32)) (pc := 27) hx hb dX0_move_27 (by decide) ?_
        exact g_iret (WX ct a ρ) hd S hr hlk hH dX0_move_29
    · have hd := if_t c4 hd
      refine lv_iconst (v := (-1 : Int32)) (pc := 15) hx hb dX0_move_15 (by decide) ?_
      exact g_iret (WX ct a ρ) hd S hr hlk hH dX0_move_16
section CR_X_move
variable {p : Program} {l : Launch} {e : Env} {R : Room} {s : State} {m : MethodId} {args : Array Value} {below : List Frame} {meth : Method} {c : Code} {H : Heap} {locs : List Loc} {cells slots : Nat} {Q : State → Prop}
variable {cc : ByteArray} {pc nL idx : Nat} {ls : Array Slot} {rest : List Value} {lv : List (Nat × Value)} {A : Nat → Prop} {H0 : Heap} {own : String}
theorem call_X_move {D : va_G} {ct : Nat → ClassId} {a : XA} {ρ : Option Nat} {st : XS} {a1 : Int32} {a2 : Int32} {z : (XS × Int32)} (S : CallFix p m c cc nL s args lw_all own) (hl : lv_has ls nL lv) (hE : gEX s) (hK : va_K D clA (tysG ct) s) (hH : GH D A (xAs a) H0 (WX ct a ρ st) H locs) (hlk : Cond.methodLink own idx yX0_move ∈ lw_all) (hv : X_move st a1 a2 = some z) (hR : 7 ≤ R.frames ∧ 188 ≤ R.locals) (hsum : (rest.map fun v => v.category).sum ≤ 8) (hdg : decode cc pc = .ok (.invokevirtual idx, 3)) (hf : cells ≤ R.cells ∧ slots ≤ R.slots)
    (k : ∀ (H1 : Heap) (locs1 : List Loc), GH D A (xAs a) H0 (WX ct a ρ z.1) H1 locs1 → W p l e R s m args below meth c H1 locs1 cells slots Q (F0 m (pc + 3) ls (.int z.2 :: rest))) : W p l e R s m args below meth c H locs cells slots Q (F0 m pc ls (.int a2 :: .int a1 :: .ref (ah a 0) :: rest)) :=
  g_calli (av := [.int a1, .int a2]) S hl gEX_ok hE hK hH (met_X_move l D ct a ρ H.size st a1 a2 z hv) (lw_V hlk q676 q677 q69 q678) rfl rfl ⟨rfl, by decide, by decide, by show (parseMethodDescriptor yX0_move.desc).map (fun d => d.parameters.length) = some 2; decide +kernel⟩ hR (x_recv hK hH) (fun _ h => Or.inl h) rfl hsum hdg hf k
end CR_X_move
/-! CapCouncil.gather (I)I -/
def X_gather (st : XS) (a1 : Int32) : Option (XS × Int32) :=
  (X_isRing st a1).bind fun v1 =>
  if v1 = 0 then
    (some (st, (-1 : Int32)))
  else
    ((X_has (xi st 8) a1).bind fun v3 =>
    if v3 = 0 then
      (some (st, (-4 : Int32)))
    else
      (if (xi st 9) = (40 : Int32) then
        (some (st, (-2 : Int32)))
      else
        ((X_note st).bind fun q6 =>
        (X_bedsIn q6 a1).bind fun v7 =>
        bs_let ((xi q6 8) &&& (((1 : Int32) <<< (a1 &&& 31)) ^^^ (-1 : Int32))) fun w8 =>
        bs_let (sxi q6 8 w8) fun s9 =>
        some (s9, v7))))
def rm_X_gather : Room := { frames := 6, cells := 0, slots := 0, locals := 166 }
set_option maxHeartbeats 4000000 in
set_option maxRecDepth 100000 in
theorem met_X_gather (l : Launch) (D : va_G) (ct : Nat → ClassId) (a : XA) (ρ : Option Nat) (sz : Nat) (st : XS) (a1 : Int32) (z : (XS × Int32)) (hd : X_gather st a1 = some z) : Met l yX0_gather (ws_ yX0_gather cX0_gather 3 (some .int)) rm_X_gather (GPre gEX D ct (xAs a) (WX ct a ρ st) sz [.ref (ah a 0), .int a1]) (GQi D (xAs a) (xAs a) (WX ct a ρ z.1) sz z.2) 0 0 (gA (xAs a) sz) := by
  refine g_met (cc := cX0_gather) (maxL := 3) (ret := (some .int)) (by decide) (Nat.le_of_ble_eq_true rfl) ?_
  intro p e U m args below meth c ls S hr hlk hK hH hE hsz hl
  have S : CallFix p m c cX0_gather 3 U args lw_all RX0 := S
  have hx := S.1
  have hb := S.2.1
  have hl : lv_has ls 3 [(0, .ref (ah a 0)), (1, .int a1)] := hl
  unfold X_gather at hd
  refine lv_aload_n (pc := 0) hx hb dX0_gather_0 rfl (lv_at hl 0 rfl) ?_
  refine lv_iload_n (pc := 1) hx hb dX0_gather_1 rfl (lv_at hl 1 rfl) ?_
  obtain ⟨v1, hv1, hd⟩ := bs_bd hd
  refine call_X_isRing (pc := 2) S hl hE hK hH q481 hv1 ⟨Nat.le_of_ble_eq_true rfl, Nat.le_of_ble_eq_true rfl⟩ (Nat.le_of_ble_eq_true rfl) dX0_gather_2 ⟨Nat.zero_le _, Nat.zero_le _⟩ ?_
  refine lv_if_ne (pc := 5) (tgt := 10) hx hb dX0_gather_5 (by decide) (fun c2 => ?_) (fun c2 => ?_)
  · have hd := if_n c2 hd
    refine lv_aload_n (pc := 10) hx hb dX0_gather_10 rfl (lv_at hl 0 rfl) ?_
    refine xg_up (pc := 11) S hK hH dX0_gather_11 ?_
    refine lv_iload_n (pc := 14) hx hb dX0_gather_14 rfl (lv_at hl 1 rfl) ?_
    obtain ⟨v3, hv3, hd⟩ := bs_bd hd
    refine call_X_has (pc := 15) S hl q520 hv3 ⟨Nat.le_of_ble_eq_true rfl, Nat.le_of_ble_eq_true rfl⟩ (Nat.le_of_ble_eq_true rfl) dX0_gather_15 ⟨Nat.zero_le _, Nat.zero_le _⟩ ?_
    refine lv_if_ne (pc := 18) (tgt := 24) hx hb dX0_gather_18 (by decide) (fun c4 => ?_) (fun c4 => ?_)
    · have hd := if_n c4 hd
      refine lv_aload_n (pc := 24) hx hb dX0_gather_24 rfl (lv_at hl 0 rfl) ?_
      refine xg_deedMany (pc := 25) S hK hH dX0_gather_25 ?_
      refine lv_bipush (v := (40 : Int32)) (pc := 28) hx hb dX0_gather_28 (by decide) ?_
      refine lv_icmp_ne (pc := 30) (tgt := 36) hx hb dX0_gather_30 (by decide) (fun c5 => ?_) (fun c5 => ?_)
      · have hd := if_n c5 hd
        refine lv_aload_n (pc := 36) hx hb dX0_gather_36 rfl (lv_at hl 0 rfl) ?_
        obtain ⟨q6, hq6, hd⟩ := bs_bd hd
        refine call_X_note (pc := 37) S hl hE hK hH q657 hq6 ⟨Nat.le_of_ble_eq_true rfl, Nat.le_of_ble_eq_true rfl⟩ (Nat.le_of_ble_eq_true rfl) dX0_gather_37 ⟨Nat.zero_le _, Nat.zero_le _⟩ (fun H locs hH => ?_)
        refine lv_aload_n (pc := 40) hx hb dX0_gather_40 rfl (lv_at hl 0 rfl) ?_
        refine lv_iload_n (pc := 41) hx hb dX0_gather_41 rfl (lv_at hl 1 rfl) ?_
        obtain ⟨v7, hv7, hd⟩ := bs_bd hd
        refine call_X_bedsIn (pc := 42) S hl hE hK hH q516 hv7 ⟨Nat.le_of_ble_eq_true rfl, Nat.le_of_ble_eq_true rfl⟩ (Nat.le_of_ble_eq_true rfl) dX0_gather_42 ⟨Nat.zero_le _, Nat.zero_le _⟩ ?_
        refine lv_istore_n (pc := 45) (lv' := [(2, .int v7), (0, .ref (ah a 0)), (1, .int a1)]) hx hb dX0_gather_45 rfl hl (by decide) rfl (fun ls hl => ?_)
        refine lv_aload_n (pc := 46) hx hb dX0_gather_46 rfl (lv_at hl 1 rfl) ?_
        refine lv_dup (pc := 47) hx hb dX0_gather_47 rfl ?_
        refine xg_up (pc := 48) S hK hH dX0_gather_48 ?_
        refine lv_iconst (v := (1 : Int32)) (pc := 51) hx hb dX0_gather_51 (by decide) ?_
        refine lv_iload_n (pc := 52) hx hb dX0_gather_52 rfl (lv_at hl 2 rfl) ?_
        refine lv_ishl (pc := 53) hx hb dX0_gather_53 ?_
        refine lv_iconst (v := (-1 : Int32)) (pc := 54) hx hb dX0_gather_54 (by decide) ?_
        refine lv_ixor (pc := 55) hx hb dX0_gather_55 ?_
        refine lv_iand (pc := 56) hx hb dX0_gather_56 ?_
        obtain ⟨w8, ew8, hd⟩ := bs_let_spec hd
        refine lv_topE (pc := 57) ew8 ?_
        obtain ⟨s9, es9, hd⟩ := bs_let_spec hd
        refine xp_up (pc := 57) S hK hH dX0_gather_57 es9 (fun H locs hH => ?_)
        refine lv_iload_n (pc := 60) hx hb dX0_gather_60 rfl (lv_at hl 0 rfl) ?_
        exact g_iret (WX ct a ρ) hd S hr hlk hH dX0_gather_61
      · have hd := if_t c5 hd
        refine lv_bipush (v := (-2 : Int32)) (pc := 33) hx hb dX0_gather_33 (by decide) ?_
        exact g_iret (WX ct a ρ) hd S hr hlk hH dX0_gather_35
    · have hd := if_t c4 hd
      refine lv_bipush (v := (-4 : Int32)) (pc := 21) hx hb dX0_gather_21 (by decide) ?_
      exact g_iret (WX ct a ρ) hd S hr hlk hH dX0_gather_23
  · have hd := if_t c2 hd
    refine lv_iconst (v := (-1 : Int32)) (pc := 8) hx hb dX0_gather_8 (by decide) ?_
    exact g_iret (WX ct a ρ) hd S hr hlk hH dX0_gather_9
section CR_X_gather
variable {p : Program} {l : Launch} {e : Env} {R : Room} {s : State} {m : MethodId} {args : Array Value} {below : List Frame} {meth : Method} {c : Code} {H : Heap} {locs : List Loc} {cells slots : Nat} {Q : State → Prop}
variable {cc : ByteArray} {pc nL idx : Nat} {ls : Array Slot} {rest : List Value} {lv : List (Nat × Value)} {A : Nat → Prop} {H0 : Heap} {own : String}
theorem call_X_gather {D : va_G} {ct : Nat → ClassId} {a : XA} {ρ : Option Nat} {st : XS} {a1 : Int32} {z : (XS × Int32)} (S : CallFix p m c cc nL s args lw_all own) (hl : lv_has ls nL lv) (hE : gEX s) (hK : va_K D clA (tysG ct) s) (hH : GH D A (xAs a) H0 (WX ct a ρ st) H locs) (hlk : Cond.methodLink own idx yX0_gather ∈ lw_all) (hv : X_gather st a1 = some z) (hR : 7 ≤ R.frames ∧ 188 ≤ R.locals) (hsum : (rest.map fun v => v.category).sum ≤ 8) (hdg : decode cc pc = .ok (.invokevirtual idx, 3)) (hf : cells ≤ R.cells ∧ slots ≤ R.slots)
    (k : ∀ (H1 : Heap) (locs1 : List Loc), GH D A (xAs a) H0 (WX ct a ρ z.1) H1 locs1 → W p l e R s m args below meth c H1 locs1 cells slots Q (F0 m (pc + 3) ls (.int z.2 :: rest))) : W p l e R s m args below meth c H locs cells slots Q (F0 m pc ls (.int a1 :: .ref (ah a 0) :: rest)) :=
  g_calli (av := [.int a1]) S hl gEX_ok hE hK hH (met_X_gather l D ct a ρ H.size st a1 z hv) (lw_V hlk q680 q681 q69 q682) rfl rfl ⟨rfl, by decide, by decide, by show (parseMethodDescriptor yX0_gather.desc).map (fun d => d.parameters.length) = some 1; decide +kernel⟩ hR (x_recv hK hH) (fun _ h => Or.inl h) rfl hsum hdg hf k
end CR_X_gather
/-! CapCouncil.make (I)I -/
def X_make (st : XS) (a1 : Int32) : Option (XS × Int32) :=
  (X_isRing st a1).bind fun v1 =>
  if v1 = 0 then
    (some (st, (-1 : Int32)))
  else
    ((X_has (xi st 8) a1).bind fun v3 =>
    if v3 = 0 then
      (if (xi st 9) = (40 : Int32) then
        (some (st, (-2 : Int32)))
      else
        ((X_note st).bind fun q6 =>
        bs_let ((xi q6 8) ||| ((1 : Int32) <<< (a1 &&& 31))) fun w7 =>
        bs_let (sxi q6 8 w7) fun s8 =>
        (X_bedsIn s8 a1).bind fun v9 =>
        some (s8, v9)))
    else
      (some (st, (-4 : Int32))))
def rm_X_make : Room := { frames := 6, cells := 0, slots := 0, locals := 166 }
set_option maxHeartbeats 4000000 in
set_option maxRecDepth 100000 in
theorem met_X_make (l : Launch) (D : va_G) (ct : Nat → ClassId) (a : XA) (ρ : Option Nat) (sz : Nat) (st : XS) (a1 : Int32) (z : (XS × Int32)) (hd : X_make st a1 = some z) : Met l yX0_make (ws_ yX0_make cX0_make 2 (some .int)) rm_X_make (GPre gEX D ct (xAs a) (WX ct a ρ st) sz [.ref (ah a 0), .int a1]) (GQi D (xAs a) (xAs a) (WX ct a ρ z.1) sz z.2) 0 0 (gA (xAs a) sz) := by
  refine g_met (cc := cX0_make) (maxL := 2) (ret := (some .int)) (by decide) (Nat.le_of_ble_eq_true rfl) ?_
  intro p e U m args below meth c ls S hr hlk hK hH hE hsz hl
  have S : CallFix p m c cX0_make 2 U args lw_all RX0 := S
  have hx := S.1
  have hb := S.2.1
  have hl : lv_has ls 2 [(0, .ref (ah a 0)), (1, .int a1)] := hl
  unfold X_make at hd
  refine lv_aload_n (pc := 0) hx hb dX0_make_0 rfl (lv_at hl 0 rfl) ?_
  refine lv_iload_n (pc := 1) hx hb dX0_make_1 rfl (lv_at hl 1 rfl) ?_
  obtain ⟨v1, hv1, hd⟩ := bs_bd hd
  refine call_X_isRing (pc := 2) S hl hE hK hH q481 hv1 ⟨Nat.le_of_ble_eq_true rfl, Nat.le_of_ble_eq_true rfl⟩ (Nat.le_of_ble_eq_true rfl) dX0_make_2 ⟨Nat.zero_le _, Nat.zero_le _⟩ ?_
  refine lv_if_ne (pc := 5) (tgt := 10) hx hb dX0_make_5 (by decide) (fun c2 => ?_) (fun c2 => ?_)
  · have hd := if_n c2 hd
    refine lv_aload_n (pc := 10) hx hb dX0_make_10 rfl (lv_at hl 0 rfl) ?_
    refine xg_up (pc := 11) S hK hH dX0_make_11 ?_
    refine lv_iload_n (pc := 14) hx hb dX0_make_14 rfl (lv_at hl 1 rfl) ?_
    obtain ⟨v3, hv3, hd⟩ := bs_bd hd
    refine call_X_has (pc := 15) S hl q520 hv3 ⟨Nat.le_of_ble_eq_true rfl, Nat.le_of_ble_eq_true rfl⟩ (Nat.le_of_ble_eq_true rfl) dX0_make_15 ⟨Nat.zero_le _, Nat.zero_le _⟩ ?_
    refine lv_if_eq (pc := 18) (tgt := 24) hx hb dX0_make_18 (by decide) (fun c4 => ?_) (fun c4 => ?_)
    · have hd := if_t c4 hd
      refine lv_aload_n (pc := 24) hx hb dX0_make_24 rfl (lv_at hl 0 rfl) ?_
      refine xg_deedMany (pc := 25) S hK hH dX0_make_25 ?_
      refine lv_bipush (v := (40 : Int32)) (pc := 28) hx hb dX0_make_28 (by decide) ?_
      refine lv_icmp_ne (pc := 30) (tgt := 36) hx hb dX0_make_30 (by decide) (fun c5 => ?_) (fun c5 => ?_)
      · have hd := if_n c5 hd
        refine lv_aload_n (pc := 36) hx hb dX0_make_36 rfl (lv_at hl 0 rfl) ?_
        obtain ⟨q6, hq6, hd⟩ := bs_bd hd
        refine call_X_note (pc := 37) S hl hE hK hH q657 hq6 ⟨Nat.le_of_ble_eq_true rfl, Nat.le_of_ble_eq_true rfl⟩ (Nat.le_of_ble_eq_true rfl) dX0_make_37 ⟨Nat.zero_le _, Nat.zero_le _⟩ (fun H locs hH => ?_)
        refine lv_aload_n (pc := 40) hx hb dX0_make_40 rfl (lv_at hl 0 rfl) ?_
        refine lv_dup (pc := 41) hx hb dX0_make_41 rfl ?_
        refine xg_up (pc := 42) S hK hH dX0_make_42 ?_
        refine lv_iconst (v := (1 : Int32)) (pc := 45) hx hb dX0_make_45 (by decide) ?_
        refine lv_iload_n (pc := 46) hx hb dX0_make_46 rfl (lv_at hl 1 rfl) ?_
        refine lv_ishl (pc := 47) hx hb dX0_make_47 ?_
        refine lv_ior (pc := 48) hx hb dX0_make_48 ?_
        obtain ⟨w7, ew7, hd⟩ := bs_let_spec hd
        refine lv_topE (pc := 49) ew7 ?_
        obtain ⟨s8, es8, hd⟩ := bs_let_spec hd
        refine xp_up (pc := 49) S hK hH dX0_make_49 es8 (fun H locs hH => ?_)
        refine lv_aload_n (pc := 52) hx hb dX0_make_52 rfl (lv_at hl 0 rfl) ?_
        refine lv_iload_n (pc := 53) hx hb dX0_make_53 rfl (lv_at hl 1 rfl) ?_
        obtain ⟨v9, hv9, hd⟩ := bs_bd hd
        refine call_X_bedsIn (pc := 54) S hl hE hK hH q516 hv9 ⟨Nat.le_of_ble_eq_true rfl, Nat.le_of_ble_eq_true rfl⟩ (Nat.le_of_ble_eq_true rfl) dX0_make_54 ⟨Nat.zero_le _, Nat.zero_le _⟩ ?_
        exact g_iret (WX ct a ρ) hd S hr hlk hH dX0_make_57
      · have hd := if_t c5 hd
        refine lv_bipush (v := (-2 : Int32)) (pc := 33) hx hb dX0_make_33 (by decide) ?_
        exact g_iret (WX ct a ρ) hd S hr hlk hH dX0_make_35
    · have hd := if_n c4 hd
      refine lv_bipush (v := (-4 : Int32)) (pc := 21) hx hb dX0_make_21 (by decide) ?_
      exact g_iret (WX ct a ρ) hd S hr hlk hH dX0_make_23
  · have hd := if_t c2 hd
    refine lv_iconst (v := (-1 : Int32)) (pc := 8) hx hb dX0_make_8 (by decide) ?_
    exact g_iret (WX ct a ρ) hd S hr hlk hH dX0_make_9
section CR_X_make
variable {p : Program} {l : Launch} {e : Env} {R : Room} {s : State} {m : MethodId} {args : Array Value} {below : List Frame} {meth : Method} {c : Code} {H : Heap} {locs : List Loc} {cells slots : Nat} {Q : State → Prop}
variable {cc : ByteArray} {pc nL idx : Nat} {ls : Array Slot} {rest : List Value} {lv : List (Nat × Value)} {A : Nat → Prop} {H0 : Heap} {own : String}
theorem call_X_make {D : va_G} {ct : Nat → ClassId} {a : XA} {ρ : Option Nat} {st : XS} {a1 : Int32} {z : (XS × Int32)} (S : CallFix p m c cc nL s args lw_all own) (hl : lv_has ls nL lv) (hE : gEX s) (hK : va_K D clA (tysG ct) s) (hH : GH D A (xAs a) H0 (WX ct a ρ st) H locs) (hlk : Cond.methodLink own idx yX0_make ∈ lw_all) (hv : X_make st a1 = some z) (hR : 7 ≤ R.frames ∧ 187 ≤ R.locals) (hsum : (rest.map fun v => v.category).sum ≤ 8) (hdg : decode cc pc = .ok (.invokevirtual idx, 3)) (hf : cells ≤ R.cells ∧ slots ≤ R.slots)
    (k : ∀ (H1 : Heap) (locs1 : List Loc), GH D A (xAs a) H0 (WX ct a ρ z.1) H1 locs1 → W p l e R s m args below meth c H1 locs1 cells slots Q (F0 m (pc + 3) ls (.int z.2 :: rest))) : W p l e R s m args below meth c H locs cells slots Q (F0 m pc ls (.int a1 :: .ref (ah a 0) :: rest)) :=
  g_calli (av := [.int a1]) S hl gEX_ok hE hK hH (met_X_make l D ct a ρ H.size st a1 z hv) (lw_V hlk q684 q685 q69 q686) rfl rfl ⟨rfl, by decide, by decide, by show (parseMethodDescriptor yX0_make.desc).map (fun d => d.parameters.length) = some 1; decide +kernel⟩ hR (x_recv hK hH) (fun _ h => Or.inl h) rfl hsum hdg hf k
end CR_X_make
/-! CapCouncil.think (II)I -/
def X_think (st : XS) (a1 : Int32) (a2 : Int32) : Option (XS × Int32) :=
  (X_isBed st a1).bind fun v1 =>
  if v1 = 0 then
    (some (st, (-1 : Int32)))
  else
    ((X_isIn a2 (0 : Int32) (9 : Int32)).bind fun v3 =>
    if v3 = 0 then
      (some (st, (-1 : Int32)))
    else
      (if (xi st 9) = (40 : Int32) then
        (some (st, (-2 : Int32)))
      else
        ((X_note st).bind fun q6 =>
        (bs_ld (xa q6 6) 6 a1).bind fun v7 =>
        (xast q6 6 6 a1 a2).bind fun s8 =>
        some (s8, v7))))
def rm_X_think : Room := { frames := 3, cells := 0, slots := 0, locals := 102 }
set_option maxHeartbeats 4000000 in
set_option maxRecDepth 100000 in
theorem met_X_think (l : Launch) (D : va_G) (ct : Nat → ClassId) (a : XA) (ρ : Option Nat) (sz : Nat) (st : XS) (a1 : Int32) (a2 : Int32) (z : (XS × Int32)) (hd : X_think st a1 a2 = some z) : Met l yX0_think (ws_ yX0_think cX0_think 4 (some .int)) rm_X_think (GPre gEX D ct (xAs a) (WX ct a ρ st) sz [.ref (ah a 0), .int a1, .int a2]) (GQi D (xAs a) (xAs a) (WX ct a ρ z.1) sz z.2) 0 0 (gA (xAs a) sz) := by
  refine g_met (cc := cX0_think) (maxL := 4) (ret := (some .int)) (by decide) (Nat.le_of_ble_eq_true rfl) ?_
  intro p e U m args below meth c ls S hr hlk hK hH hE hsz hl
  have S : CallFix p m c cX0_think 4 U args lw_all RX0 := S
  have hx := S.1
  have hb := S.2.1
  have hl : lv_has ls 4 [(0, .ref (ah a 0)), (1, .int a1), (2, .int a2)] := hl
  unfold X_think at hd
  refine lv_aload_n (pc := 0) hx hb dX0_think_0 rfl (lv_at hl 0 rfl) ?_
  refine lv_iload_n (pc := 1) hx hb dX0_think_1 rfl (lv_at hl 1 rfl) ?_
  obtain ⟨v1, hv1, hd⟩ := bs_bd hd
  refine call_X_isBed (pc := 2) S hl hE hK hH q569 hv1 ⟨Nat.le_of_ble_eq_true rfl, Nat.le_of_ble_eq_true rfl⟩ (Nat.le_of_ble_eq_true rfl) dX0_think_2 ⟨Nat.zero_le _, Nat.zero_le _⟩ ?_
  refine lv_if_eq (pc := 5) (tgt := 18) hx hb dX0_think_5 (by decide) (fun c2 => ?_) (fun c2 => ?_)
  · have hd := if_t c2 hd
    refine lv_iconst (v := (-1 : Int32)) (pc := 18) hx hb dX0_think_18 (by decide) ?_
    exact g_iret (WX ct a ρ) hd S hr hlk hH dX0_think_19
  · have hd := if_n c2 hd
    refine lv_iload_n (pc := 8) hx hb dX0_think_8 rfl (lv_at hl 2 rfl) ?_
    refine lv_iconst (v := (0 : Int32)) (pc := 9) hx hb dX0_think_9 (by decide) ?_
    refine lv_bipush (v := (9 : Int32)) (pc := 10) hx hb dX0_think_10 (by decide) ?_
    obtain ⟨v3, hv3, hd⟩ := bs_bd hd
    refine call_X_isIn (pc := 12) S hl q285 hv3 ⟨Nat.le_of_ble_eq_true rfl, Nat.le_of_ble_eq_true rfl⟩ (Nat.le_of_ble_eq_true rfl) dX0_think_12 ⟨Nat.zero_le _, Nat.zero_le _⟩ ?_
    refine lv_if_ne (pc := 15) (tgt := 20) hx hb dX0_think_15 (by decide) (fun c4 => ?_) (fun c4 => ?_)
    · have hd := if_n c4 hd
      refine lv_aload_n (pc := 20) hx hb dX0_think_20 rfl (lv_at hl 0 rfl) ?_
      refine xg_deedMany (pc := 21) S hK hH dX0_think_21 ?_
      refine lv_bipush (v := (40 : Int32)) (pc := 24) hx hb dX0_think_24 (by decide) ?_
      refine lv_icmp_ne (pc := 26) (tgt := 32) hx hb dX0_think_26 (by decide) (fun c5 => ?_) (fun c5 => ?_)
      · have hd := if_n c5 hd
        refine lv_aload_n (pc := 32) hx hb dX0_think_32 rfl (lv_at hl 0 rfl) ?_
        obtain ⟨q6, hq6, hd⟩ := bs_bd hd
        refine call_X_note (pc := 33) S hl hE hK hH q657 hq6 ⟨Nat.le_of_ble_eq_true rfl, Nat.le_of_ble_eq_true rfl⟩ (Nat.le_of_ble_eq_true rfl) dX0_think_33 ⟨Nat.zero_le _, Nat.zero_le _⟩ (fun H locs hH => ?_)
        refine lv_aload_n (pc := 36) hx hb dX0_think_36 rfl (lv_at hl 0 rfl) ?_
        refine xg_thoughts (pc := 37) S hK hH dX0_think_37 ?_
        refine lv_iload_n (pc := 40) hx hb dX0_think_40 rfl (lv_at hl 1 rfl) ?_
        obtain ⟨v7, hv7, hd⟩ := bs_bd hd
        refine xl_thoughts (pc := 41) S hK hH hv7 dX0_think_41 ?_
        refine lv_istore_n (pc := 42) (lv' := [(3, .int v7), (0, .ref (ah a 0)), (1, .int a1), (2, .int a2)]) hx hb dX0_think_42 rfl hl (by decide) rfl (fun ls hl => ?_)
        refine lv_aload_n (pc := 43) hx hb dX0_think_43 rfl (lv_at hl 1 rfl) ?_
        refine xg_thoughts (pc := 44) S hK hH dX0_think_44 ?_
        refine lv_iload_n (pc := 47) hx hb dX0_think_47 rfl (lv_at hl 2 rfl) ?_
        refine lv_iload_n (pc := 48) hx hb dX0_think_48 rfl (lv_at hl 3 rfl) ?_
        obtain ⟨s8, hs8, hd⟩ := bs_bd hd
        refine xs_thoughts (pc := 49) S hK hH hs8 dX0_think_49 (fun H locs hH => ?_)
        refine lv_iload_n (pc := 50) hx hb dX0_think_50 rfl (lv_at hl 0 rfl) ?_
        exact g_iret (WX ct a ρ) hd S hr hlk hH dX0_think_51
      · have hd := if_t c5 hd
        refine lv_bipush (v := (-2 : Int32)) (pc := 29) hx hb dX0_think_29 (by decide) ?_
        exact g_iret (WX ct a ρ) hd S hr hlk hH dX0_think_31
    · have hd := if_t c4 hd
      refine lv_iconst (v := (-1 : Int32)) (pc := 18) hx hb dX0_think_18 (by decide) ?_
      exact g_iret (WX ct a ρ) hd S hr hlk hH dX0_think_19
section CR_X_think
variable {p : Program} {l : Launch} {e : Env} {R : Room} {s : State} {m : MethodId} {args : Array Value} {below : List Frame} {meth : Method} {c : Code} {H : Heap} {locs : List Loc} {cells slots : Nat} {Q : State → Prop}
variable {cc : ByteArray} {pc nL idx : Nat} {ls : Array Slot} {rest : List Value} {lv : List (Nat × Value)} {A : Nat → Prop} {H0 : Heap} {own : String}
theorem call_X_think {D : va_G} {ct : Nat → ClassId} {a : XA} {ρ : Option Nat} {st : XS} {a1 : Int32} {a2 : Int32} {z : (XS × Int32)} (S : CallFix p m c cc nL s args lw_all own) (hl : lv_has ls nL lv) (hE : gEX s) (hK : va_K D clA (tysG ct) s) (hH : GH D A (xAs a) H0 (WX ct a ρ st) H locs) (hlk : Cond.methodLink own idx yX0_think ∈ lw_all) (hv : X_think st a1 a2 = some z) (hR : 4 ≤ R.frames ∧ 125 ≤ R.locals) (hsum : (rest.map fun v => v.category).sum ≤ 8) (hdg : decode cc pc = .ok (.invokevirtual idx, 3)) (hf : cells ≤ R.cells ∧ slots ≤ R.slots)
    (k : ∀ (H1 : Heap) (locs1 : List Loc), GH D A (xAs a) H0 (WX ct a ρ z.1) H1 locs1 → W p l e R s m args below meth c H1 locs1 cells slots Q (F0 m (pc + 3) ls (.int z.2 :: rest))) : W p l e R s m args below meth c H locs cells slots Q (F0 m pc ls (.int a2 :: .int a1 :: .ref (ah a 0) :: rest)) :=
  g_calli (av := [.int a1, .int a2]) S hl gEX_ok hE hK hH (met_X_think l D ct a ρ H.size st a1 a2 z hv) (lw_V hlk q688 q689 q69 q690) rfl rfl ⟨rfl, by decide, by decide, by show (parseMethodDescriptor yX0_think.desc).map (fun d => d.parameters.length) = some 2; decide +kernel⟩ hR (x_recv hK hH) (fun _ h => Or.inl h) rfl hsum hdg hf k
end CR_X_think
/-! CapCouncil.readBack ([II)V -/
def X_readBack_ahead (st : XS) (a2 : Int32) : Option XS :=
  (bs_ld (xa st 7) 560 a2).bind fun v1 =>
  bs_let (sxi st 7 v1) fun s2 =>
  (bs_ld (xa s2 7) 560 (a2 + (1 : Int32))).bind fun v3 =>
  bs_let (sxi s2 8 v3) fun s4 =>
  (bs_cp (xa s4 7) 560 (xa s4 5) 6 (a2 + (2 : Int32)) (0 : Int32) (6 : Int32)).bind fun f5 =>
  bs_let (sxa s4 5 f5) fun s6 =>
  (bs_cp (xa s6 7) 560 (xa s6 6) 6 (a2 + (8 : Int32)) (0 : Int32) (6 : Int32)).bind fun f7 =>
  bs_let (sxa s6 6 f7) fun s8 =>
  some s8
def rm_X_readBack_ahead : Room := { frames := 1, cells := 0, slots := 0, locals := 60 }
set_option maxHeartbeats 4000000 in
set_option maxRecDepth 100000 in
theorem met_X_readBack_ahead (l : Launch) (D : va_G) (ct : Nat → ClassId) (a : XA) (ρ : Option Nat) (sz : Nat) (st : XS) (a2 : Int32) (z : XS) (hd : X_readBack_ahead st a2 = some z) : Met l yX0_readBack (ws_ yX0_readBack cX0_readBack 3 none) rm_X_readBack_ahead (GPre gEX D ct (xAs a) (WX ct a ρ st) sz [.ref (ah a 0), .ref (ah a 12), .int a2]) (GQv D (xAs a) (xAs a) (WX ct a ρ z) sz) 0 0 (gA (xAs a) sz) := by
  refine g_met (cc := cX0_readBack) (maxL := 3) (ret := none) (by decide) (Nat.le_of_ble_eq_true rfl) ?_
  intro p e U m args below meth c ls S hr hlk hK hH hE hsz hl
  have S : CallFix p m c cX0_readBack 3 U args lw_all RX0 := S
  have hx := S.1
  have hb := S.2.1
  have hl : lv_has ls 3 [(0, .ref (ah a 0)), (1, .ref (ah a 12)), (2, .int a2)] := hl
  unfold X_readBack_ahead at hd
  refine lv_aload_n (pc := 0) hx hb dX0_readBack_0 rfl (lv_at hl 0 rfl) ?_
  refine lv_aload_n (pc := 1) hx hb dX0_readBack_1 rfl (lv_at hl 1 rfl) ?_
  refine lv_iload_n (pc := 2) hx hb dX0_readBack_2 rfl (lv_at hl 2 rfl) ?_
  obtain ⟨v1, hv1, hd⟩ := bs_bd hd
  refine xl_ahead (pc := 3) S hK hH hv1 dX0_readBack_3 ?_
  obtain ⟨s2, es2, hd⟩ := bs_let_spec hd
  refine xp_yearNow (pc := 4) S hK hH dX0_readBack_4 es2 (fun H locs hH => ?_)
  refine lv_aload_n (pc := 7) hx hb dX0_readBack_7 rfl (lv_at hl 0 rfl) ?_
  refine lv_aload_n (pc := 8) hx hb dX0_readBack_8 rfl (lv_at hl 1 rfl) ?_
  refine lv_iload_n (pc := 9) hx hb dX0_readBack_9 rfl (lv_at hl 2 rfl) ?_
  refine lv_iconst (v := (1 : Int32)) (pc := 10) hx hb dX0_readBack_10 (by decide) ?_
  refine lv_iadd (pc := 11) hx hb dX0_readBack_11 ?_
  obtain ⟨v3, hv3, hd⟩ := bs_bd hd
  refine xl_ahead (pc := 12) S hK hH hv3 dX0_readBack_12 ?_
  obtain ⟨s4, es4, hd⟩ := bs_let_spec hd
  refine xp_up (pc := 13) S hK hH dX0_readBack_13 es4 (fun H locs hH => ?_)
  refine lv_aload_n (pc := 16) hx hb dX0_readBack_16 rfl (lv_at hl 1 rfl) ?_
  refine lv_iload_n (pc := 17) hx hb dX0_readBack_17 rfl (lv_at hl 2 rfl) ?_
  refine lv_iconst (v := (2 : Int32)) (pc := 18) hx hb dX0_readBack_18 (by decide) ?_
  refine lv_iadd (pc := 19) hx hb dX0_readBack_19 ?_
  refine lv_aload_n (pc := 20) hx hb dX0_readBack_20 rfl (lv_at hl 0 rfl) ?_
  refine xg_places (pc := 21) S hK hH dX0_readBack_21 ?_
  refine lv_iconst (v := (0 : Int32)) (pc := 24) hx hb dX0_readBack_24 (by decide) ?_
  refine lv_bipush (v := (6 : Int32)) (pc := 25) hx hb dX0_readBack_25 (by decide) ?_
  obtain ⟨f5, hf5, hd⟩ := bs_bd hd
  obtain ⟨s6, es6, hd⟩ := bs_let_spec hd
  refine xc_ahead_places (pc := 27) S hl hK hH hf5 es6 ⟨Nat.le_of_ble_eq_true rfl, Nat.le_of_ble_eq_true rfl⟩ (by simp [va_rf_cat, vc_int, vc_ref, vc_long]) dX0_readBack_27 (fun H locs hH => ?_)
  refine lv_aload_n (pc := 30) hx hb dX0_readBack_30 rfl (lv_at hl 1 rfl) ?_
  refine lv_iload_n (pc := 31) hx hb dX0_readBack_31 rfl (lv_at hl 2 rfl) ?_
  refine lv_bipush (v := (8 : Int32)) (pc := 32) hx hb dX0_readBack_32 (by decide) ?_
  refine lv_iadd (pc := 34) hx hb dX0_readBack_34 ?_
  refine lv_aload_n (pc := 35) hx hb dX0_readBack_35 rfl (lv_at hl 0 rfl) ?_
  refine xg_thoughts (pc := 36) S hK hH dX0_readBack_36 ?_
  refine lv_iconst (v := (0 : Int32)) (pc := 39) hx hb dX0_readBack_39 (by decide) ?_
  refine lv_bipush (v := (6 : Int32)) (pc := 40) hx hb dX0_readBack_40 (by decide) ?_
  obtain ⟨f7, hf7, hd⟩ := bs_bd hd
  obtain ⟨s8, es8, hd⟩ := bs_let_spec hd
  refine xc_ahead_thoughts (pc := 42) S hl hK hH hf7 es8 ⟨Nat.le_of_ble_eq_true rfl, Nat.le_of_ble_eq_true rfl⟩ (by simp [va_rf_cat, vc_int, vc_ref, vc_long]) dX0_readBack_42 (fun H locs hH => ?_)
  exact g_vret (WX ct a ρ) hd S hr hlk hH dX0_readBack_45
section CR_X_readBack_ahead
variable {p : Program} {l : Launch} {e : Env} {R : Room} {s : State} {m : MethodId} {args : Array Value} {below : List Frame} {meth : Method} {c : Code} {H : Heap} {locs : List Loc} {cells slots : Nat} {Q : State → Prop}
variable {cc : ByteArray} {pc nL idx : Nat} {ls : Array Slot} {rest : List Value} {lv : List (Nat × Value)} {A : Nat → Prop} {H0 : Heap} {own : String}
theorem call_X_readBack_ahead {D : va_G} {ct : Nat → ClassId} {a : XA} {ρ : Option Nat} {st : XS} {a2 : Int32} {z : XS} (S : CallFix p m c cc nL s args lw_all own) (hl : lv_has ls nL lv) (hE : gEX s) (hK : va_K D clA (tysG ct) s) (hH : GH D A (xAs a) H0 (WX ct a ρ st) H locs) (hlk : Cond.methodLink own idx yX0_readBack ∈ lw_all) (hv : X_readBack_ahead st a2 = some z) (hR : 2 ≤ R.frames ∧ 82 ≤ R.locals) (hsum : (rest.map fun v => v.category).sum ≤ 8) (hdg : decode cc pc = .ok (.invokevirtual idx, 3)) (hf : cells ≤ R.cells ∧ slots ≤ R.slots)
    (k : ∀ (H1 : Heap) (locs1 : List Loc), GH D A (xAs a) H0 (WX ct a ρ z) H1 locs1 → W p l e R s m args below meth c H1 locs1 cells slots Q (F0 m (pc + 3) ls (rest))) : W p l e R s m args below meth c H locs cells slots Q (F0 m pc ls (.int a2 :: .ref (ah a 12) :: .ref (ah a 0) :: rest)) :=
  g_callv (av := [.ref (ah a 12), .int a2]) S hl gEX_ok hE hK hH (met_X_readBack_ahead l D ct a ρ H.size st a2 z hv) (lw_V hlk q697 qs23 q69 q698) rfl rfl ⟨rfl, by decide, by decide, by show (parseMethodDescriptor yX0_readBack.desc).map (fun d => d.parameters.length) = some 2; decide +kernel⟩ hR (x_recv hK hH) (fun _ h => Or.inl h) rfl hsum hdg hf k
end CR_X_readBack_ahead
/-! CapCouncil.undo (I)I -/
def X_undo (st : XS) (a1 : Int32) : Option (XS × Int32) :=
  (X_isIn a1 (0 : Int32) (xi st 9)).bind fun v1 =>
  if v1 = 0 then
    (some (st, (-1 : Int32)))
  else
    (bs_let ((xi st 9) - a1) fun w3 =>
    if w3 ≤ 0 then
      (some (st, w3))
    else
      ((X_readBack_ahead st ((14 : Int32) * a1)).bind fun q5 =>
      bs_let (sxi q5 9 a1) fun s6 =>
      some (s6, w3)))
def rm_X_undo : Room := { frames := 2, cells := 0, slots := 0, locals := 82 }
set_option maxHeartbeats 4000000 in
set_option maxRecDepth 100000 in
theorem met_X_undo (l : Launch) (D : va_G) (ct : Nat → ClassId) (a : XA) (ρ : Option Nat) (sz : Nat) (st : XS) (a1 : Int32) (z : (XS × Int32)) (hd : X_undo st a1 = some z) : Met l yX0_undo (ws_ yX0_undo cX0_undo 3 (some .int)) rm_X_undo (GPre gEX D ct (xAs a) (WX ct a ρ st) sz [.ref (ah a 0), .int a1]) (GQi D (xAs a) (xAs a) (WX ct a ρ z.1) sz z.2) 0 0 (gA (xAs a) sz) := by
  refine g_met (cc := cX0_undo) (maxL := 3) (ret := (some .int)) (by decide) (Nat.le_of_ble_eq_true rfl) ?_
  intro p e U m args below meth c ls S hr hlk hK hH hE hsz hl
  have S : CallFix p m c cX0_undo 3 U args lw_all RX0 := S
  have hx := S.1
  have hb := S.2.1
  have hl : lv_has ls 3 [(0, .ref (ah a 0)), (1, .int a1)] := hl
  unfold X_undo at hd
  refine lv_iload_n (pc := 0) hx hb dX0_undo_0 rfl (lv_at hl 1 rfl) ?_
  refine lv_iconst (v := (0 : Int32)) (pc := 1) hx hb dX0_undo_1 (by decide) ?_
  refine lv_aload_n (pc := 2) hx hb dX0_undo_2 rfl (lv_at hl 0 rfl) ?_
  refine xg_deedMany (pc := 3) S hK hH dX0_undo_3 ?_
  obtain ⟨v1, hv1, hd⟩ := bs_bd hd
  refine call_X_isIn (pc := 6) S hl q285 hv1 ⟨Nat.le_of_ble_eq_true rfl, Nat.le_of_ble_eq_true rfl⟩ (Nat.le_of_ble_eq_true rfl) dX0_undo_6 ⟨Nat.zero_le _, Nat.zero_le _⟩ ?_
  refine lv_if_ne (pc := 9) (tgt := 14) hx hb dX0_undo_9 (by decide) (fun c2 => ?_) (fun c2 => ?_)
  · have hd := if_n c2 hd
    refine lv_aload_n (pc := 14) hx hb dX0_undo_14 rfl (lv_at hl 0 rfl) ?_
    refine xg_deedMany (pc := 15) S hK hH dX0_undo_15 ?_
    refine lv_iload_n (pc := 18) hx hb dX0_undo_18 rfl (lv_at hl 1 rfl) ?_
    refine lv_isub (pc := 19) hx hb dX0_undo_19 ?_
    obtain ⟨w3, ew3, hd⟩ := bs_let_spec hd
    refine lv_topE (pc := 20) ew3 ?_
    refine lv_istore_n (pc := 20) (lv' := [(2, .int w3), (0, .ref (ah a 0)), (1, .int a1)]) hx hb dX0_undo_20 rfl hl (by decide) rfl (fun ls hl => ?_)
    refine lv_iload_n (pc := 21) hx hb dX0_undo_21 rfl (lv_at hl 0 rfl) ?_
    refine lv_if_le (pc := 22) (tgt := 42) hx hb dX0_undo_22 (by decide) (fun c4 => ?_) (fun c4 => ?_)
    · have hd := if_t c4 hd
      refine lv_iload_n (pc := 42) hx hb dX0_undo_42 rfl (lv_at hl 0 rfl) ?_
      exact g_iret (WX ct a ρ) hd S hr hlk hH dX0_undo_43
    · have hd := if_n c4 hd
      refine lv_aload_n (pc := 25) hx hb dX0_undo_25 rfl (lv_at hl 1 rfl) ?_
      refine lv_aload_n (pc := 26) hx hb dX0_undo_26 rfl (lv_at hl 1 rfl) ?_
      refine xg_ahead (pc := 27) S hK hH dX0_undo_27 ?_
      refine lv_bipush (v := (14 : Int32)) (pc := 30) hx hb dX0_undo_30 (by decide) ?_
      refine lv_iload_n (pc := 32) hx hb dX0_undo_32 rfl (lv_at hl 2 rfl) ?_
      refine lv_imul (pc := 33) hx hb dX0_undo_33 ?_
      obtain ⟨q5, hq5, hd⟩ := bs_bd hd
      refine call_X_readBack_ahead (pc := 34) S hl hE hK hH q695 hq5 ⟨Nat.le_of_ble_eq_true rfl, Nat.le_of_ble_eq_true rfl⟩ (Nat.le_of_ble_eq_true rfl) dX0_undo_34 ⟨Nat.zero_le _, Nat.zero_le _⟩ (fun H locs hH => ?_)
      refine lv_aload_n (pc := 37) hx hb dX0_undo_37 rfl (lv_at hl 1 rfl) ?_
      refine lv_iload_n (pc := 38) hx hb dX0_undo_38 rfl (lv_at hl 2 rfl) ?_
      obtain ⟨s6, es6, hd⟩ := bs_let_spec hd
      refine xp_deedMany (pc := 39) S hK hH dX0_undo_39 es6 (fun H locs hH => ?_)
      refine lv_iload_n (pc := 42) hx hb dX0_undo_42 rfl (lv_at hl 0 rfl) ?_
      exact g_iret (WX ct a ρ) hd S hr hlk hH dX0_undo_43
  · have hd := if_t c2 hd
    refine lv_iconst (v := (-1 : Int32)) (pc := 12) hx hb dX0_undo_12 (by decide) ?_
    exact g_iret (WX ct a ρ) hd S hr hlk hH dX0_undo_13
section CR_X_undo
variable {p : Program} {l : Launch} {e : Env} {R : Room} {s : State} {m : MethodId} {args : Array Value} {below : List Frame} {meth : Method} {c : Code} {H : Heap} {locs : List Loc} {cells slots : Nat} {Q : State → Prop}
variable {cc : ByteArray} {pc nL idx : Nat} {ls : Array Slot} {rest : List Value} {lv : List (Nat × Value)} {A : Nat → Prop} {H0 : Heap} {own : String}
theorem call_X_undo {D : va_G} {ct : Nat → ClassId} {a : XA} {ρ : Option Nat} {st : XS} {a1 : Int32} {z : (XS × Int32)} (S : CallFix p m c cc nL s args lw_all own) (hl : lv_has ls nL lv) (hE : gEX s) (hK : va_K D clA (tysG ct) s) (hH : GH D A (xAs a) H0 (WX ct a ρ st) H locs) (hlk : Cond.methodLink own idx yX0_undo ∈ lw_all) (hv : X_undo st a1 = some z) (hR : 3 ≤ R.frames ∧ 104 ≤ R.locals) (hsum : (rest.map fun v => v.category).sum ≤ 8) (hdg : decode cc pc = .ok (.invokevirtual idx, 3)) (hf : cells ≤ R.cells ∧ slots ≤ R.slots)
    (k : ∀ (H1 : Heap) (locs1 : List Loc), GH D A (xAs a) H0 (WX ct a ρ z.1) H1 locs1 → W p l e R s m args below meth c H1 locs1 cells slots Q (F0 m (pc + 3) ls (.int z.2 :: rest))) : W p l e R s m args below meth c H locs cells slots Q (F0 m pc ls (.int a1 :: .ref (ah a 0) :: rest)) :=
  g_calli (av := [.int a1]) S hl gEX_ok hE hK hH (met_X_undo l D ct a ρ H.size st a1 z hv) (lw_V hlk q692 q693 q69 q694) rfl rfl ⟨rfl, by decide, by decide, by show (parseMethodDescriptor yX0_undo.desc).map (fun d => d.parameters.length) = some 1; decide +kernel⟩ hR (x_recv hK hH) (fun _ h => Or.inl h) rfl hsum hdg hf k
end CR_X_undo
/-! CapCouncil.isKept (I)Z -/
def X_isKept (a0 : Int32) : Option Int32 :=
  (X_isIn a0 (0 : Int32) (2 : Int32)).bind fun v1 =>
  bs_gb v1 (some v1)
def rm_X_isKept : Room := { frames := 1, cells := 0, slots := 0, locals := 22 }
set_option maxHeartbeats 4000000 in
set_option maxRecDepth 100000 in
theorem met_X_isKept (l : Launch) (a0 : Int32) (z : Int32) (hd : X_isKept a0 = some z) : Met l yX0_isKept (ws_ yX0_isKept cX0_isKept 1 (some .boolean)) rm_X_isKept (va_Pc [.int a0] (fun _ => True)) (vp_Si (fun r => r = z)) 0 0 (fun _ => False) := by
  refine p_met (cc := cX0_isKept) (maxL := 1) (ret := (some .boolean)) (by decide) (Nat.le_of_ble_eq_true rfl) ?_
  intro p e U m args below meth c ls S hr hlk hl
  have S : CallFix p m c cX0_isKept 1 U args lw_all RX0 := S
  have hx := S.1
  have hb := S.2.1
  have hl : lv_has ls 1 [(0, .int a0)] := hl
  unfold X_isKept at hd
  refine lv_iload_n (pc := 0) hx hb dX0_isKept_0 rfl (lv_at hl 0 rfl) ?_
  refine lv_iconst (v := (0 : Int32)) (pc := 1) hx hb dX0_isKept_1 (by decide) ?_
  refine lv_iconst (v := (2 : Int32)) (pc := 2) hx hb dX0_isKept_2 (by decide) ?_
  obtain ⟨v1, hv1, hd⟩ := bs_bd hd
  refine call_X_isIn (pc := 3) S hl q285 hv1 ⟨Nat.le_of_ble_eq_true rfl, Nat.le_of_ble_eq_true rfl⟩ (Nat.le_of_ble_eq_true rfl) dX0_isKept_3 ⟨Nat.zero_le _, Nat.zero_le _⟩ ?_
  obtain ⟨hn2, hd⟩ := bs_gb_spec hd
  exact r_zret hn2 hd S hr hlk dX0_isKept_6
section CR_X_isKept
variable {p : Program} {l : Launch} {e : Env} {R : Room} {s : State} {m : MethodId} {args : Array Value} {below : List Frame} {meth : Method} {c : Code} {H : Heap} {locs : List Loc} {cells slots : Nat} {Q : State → Prop}
variable {cc : ByteArray} {pc nL idx : Nat} {ls : Array Slot} {rest : List Value} {lv : List (Nat × Value)} {A : Nat → Prop} {H0 : Heap} {own : String}
theorem call_X_isKept {a0 : Int32} {z : Int32} (S : CallFix p m c cc nL s args lw_all own) (hl : lv_has ls nL lv) (hlk : Cond.methodLink own idx yX0_isKept ∈ lw_all) (hv : X_isKept a0 = some z) (hR : 2 ≤ R.frames ∧ 42 ≤ R.locals) (hsum : (rest.map fun v => v.category).sum ≤ 8) (hdg : decode cc pc = .ok (.invokestatic idx, 3)) (hf : cells ≤ R.cells ∧ slots ≤ R.slots)
    (k : W p l e R s m args below meth c H locs cells slots Q (F0 m (pc + 3) ls (.int z :: rest))) : W p l e R s m args below meth c H locs cells slots Q (F0 m pc ls (.int a0 :: rest)) :=
  p_calli (av := [.int a0]) S hl (met_X_isKept l a0 z hv) (lw_S hlk q704 q69 q705) rfl rfl ⟨by decide, by decide, by show (parseMethodDescriptor yX0_isKept.desc).map (fun d => d.parameters.length) = some 1; decide +kernel⟩ hR rfl hsum hdg hf k
end CR_X_isKept
/-! CapCouncil.readBack ([II)V -/
def X_readBack_know (st : XS) (j1 : Nat) (a2 : Int32) : Option XS :=
  (xkwld st j1 a2).bind fun v1 =>
  bs_let (sxi st 7 v1) fun s2 =>
  (xkwld s2 j1 (a2 + (1 : Int32))).bind fun v3 =>
  bs_let (sxi s2 8 v3) fun s4 =>
  bs_g (xk s4 j1).isSome <|
  (bs_cp (xkN s4 j1) 14 (xa s4 5) 6 (a2 + (2 : Int32)) (0 : Int32) (6 : Int32)).bind fun f6 =>
  bs_let (sxa s4 5 f6) fun s7 =>
  bs_g (xk s7 j1).isSome <|
  (bs_cp (xkN s7 j1) 14 (xa s7 6) 6 (a2 + (8 : Int32)) (0 : Int32) (6 : Int32)).bind fun f9 =>
  bs_let (sxa s7 6 f9) fun s10 =>
  some s10
def rm_X_readBack_know : Room := { frames := 1, cells := 0, slots := 0, locals := 60 }
set_option maxHeartbeats 4000000 in
set_option maxRecDepth 100000 in
theorem met_X_readBack_know (l : Launch) (D : va_G) (ct : Nat → ClassId) (a : XA) (ρ : Option Nat) (sz : Nat) (st : XS) (j1 : Nat) (a2 : Int32) (hj1 : j1 < 3) (z : XS) (hd : X_readBack_know st j1 a2 = some z) : Met l yX0_readBack (ws_ yX0_readBack cX0_readBack 3 none) rm_X_readBack_know (GPre gEX D ct (xAs a) (WX ct a ρ st) sz [.ref (ah a 0), va_rf (ak3 a j1), .int a2]) (GQv D (xAs a) (xAs a) (WX ct a ρ z) sz) 0 0 (gA (xAs a) sz) := by
  refine g_met (cc := cX0_readBack) (maxL := 3) (ret := none) (by decide) (by simp [lg_sl, va_rf_cat, vc_int, vc_ref, vc_long]) ?_
  intro p e U m args below meth c ls S hr hlk hK hH hE hsz hl
  have S : CallFix p m c cX0_readBack 3 U args lw_all RX0 := S
  have hx := S.1
  have hb := S.2.1
  have hl : lv_has ls 3 [(0, .ref (ah a 0)), (1, va_rf (ak3 a j1)), (2, .int a2)] := (by simpa [lv_args, va_rf_cat, vc_int, vc_ref, vc_long] using hl)
  unfold X_readBack_know at hd
  refine lv_aload_n (pc := 0) hx hb dX0_readBack_0 rfl (lv_at hl 0 rfl) ?_
  refine lv_aload_nO (pc := 1) hx hb dX0_readBack_1 rfl (lv_at hl 1 rfl) ?_
  refine lv_iload_n (pc := 2) hx hb dX0_readBack_2 rfl (lv_at hl 2 rfl) ?_
  obtain ⟨v1, hv1, hd⟩ := bs_bd hd
  refine xkw_ld (pc := 3) S hK hH hj1 hv1 dX0_readBack_3 ?_
  obtain ⟨s2, es2, hd⟩ := bs_let_spec hd
  refine xp_yearNow (pc := 4) S hK hH dX0_readBack_4 es2 (fun H locs hH => ?_)
  refine lv_aload_n (pc := 7) hx hb dX0_readBack_7 rfl (lv_at hl 0 rfl) ?_
  refine lv_aload_nO (pc := 8) hx hb dX0_readBack_8 rfl (lv_at hl 1 rfl) ?_
  refine lv_iload_n (pc := 9) hx hb dX0_readBack_9 rfl (lv_at hl 2 rfl) ?_
  refine lv_iconst (v := (1 : Int32)) (pc := 10) hx hb dX0_readBack_10 (by decide) ?_
  refine lv_iadd (pc := 11) hx hb dX0_readBack_11 ?_
  obtain ⟨v3, hv3, hd⟩ := bs_bd hd
  refine xkw_ld (pc := 12) S hK hH hj1 hv3 dX0_readBack_12 ?_
  obtain ⟨s4, es4, hd⟩ := bs_let_spec hd
  refine xp_up (pc := 13) S hK hH dX0_readBack_13 es4 (fun H locs hH => ?_)
  refine lv_aload_nO (pc := 16) hx hb dX0_readBack_16 rfl (lv_at hl 1 rfl) ?_
  refine lv_iload_n (pc := 17) hx hb dX0_readBack_17 rfl (lv_at hl 2 rfl) ?_
  refine lv_iconst (v := (2 : Int32)) (pc := 18) hx hb dX0_readBack_18 (by decide) ?_
  refine lv_iadd (pc := 19) hx hb dX0_readBack_19 ?_
  refine lv_aload_n (pc := 20) hx hb dX0_readBack_20 rfl (lv_at hl 0 rfl) ?_
  refine xg_places (pc := 21) S hK hH dX0_readBack_21 ?_
  refine lv_iconst (v := (0 : Int32)) (pc := 24) hx hb dX0_readBack_24 (by decide) ?_
  refine lv_bipush (v := (6 : Int32)) (pc := 25) hx hb dX0_readBack_25 (by decide) ?_
  obtain ⟨z5, hd⟩ := bs_g_spec hd
  obtain ⟨f6, hf6, hd⟩ := bs_bd hd
  obtain ⟨s7, es7, hd⟩ := bs_let_spec hd
  refine xc_know_places (pc := 27) S hl hK hH hj1 z5 hf6 es7 ⟨Nat.le_of_ble_eq_true rfl, Nat.le_of_ble_eq_true rfl⟩ (by simp [va_rf_cat, vc_int, vc_ref, vc_long]) dX0_readBack_27 (fun H locs hH => ?_)
  refine lv_aload_nO (pc := 30) hx hb dX0_readBack_30 rfl (lv_at hl 1 rfl) ?_
  refine lv_iload_n (pc := 31) hx hb dX0_readBack_31 rfl (lv_at hl 2 rfl) ?_
  refine lv_bipush (v := (8 : Int32)) (pc := 32) hx hb dX0_readBack_32 (by decide) ?_
  refine lv_iadd (pc := 34) hx hb dX0_readBack_34 ?_
  refine lv_aload_n (pc := 35) hx hb dX0_readBack_35 rfl (lv_at hl 0 rfl) ?_
  refine xg_thoughts (pc := 36) S hK hH dX0_readBack_36 ?_
  refine lv_iconst (v := (0 : Int32)) (pc := 39) hx hb dX0_readBack_39 (by decide) ?_
  refine lv_bipush (v := (6 : Int32)) (pc := 40) hx hb dX0_readBack_40 (by decide) ?_
  obtain ⟨z8, hd⟩ := bs_g_spec hd
  obtain ⟨f9, hf9, hd⟩ := bs_bd hd
  obtain ⟨s10, es10, hd⟩ := bs_let_spec hd
  refine xc_know_thoughts (pc := 42) S hl hK hH hj1 z8 hf9 es10 ⟨Nat.le_of_ble_eq_true rfl, Nat.le_of_ble_eq_true rfl⟩ (by simp [va_rf_cat, vc_int, vc_ref, vc_long]) dX0_readBack_42 (fun H locs hH => ?_)
  exact g_vret (WX ct a ρ) hd S hr hlk hH dX0_readBack_45
section CR_X_readBack_know
variable {p : Program} {l : Launch} {e : Env} {R : Room} {s : State} {m : MethodId} {args : Array Value} {below : List Frame} {meth : Method} {c : Code} {H : Heap} {locs : List Loc} {cells slots : Nat} {Q : State → Prop}
variable {cc : ByteArray} {pc nL idx : Nat} {ls : Array Slot} {rest : List Value} {lv : List (Nat × Value)} {A : Nat → Prop} {H0 : Heap} {own : String}
theorem call_X_readBack_know {D : va_G} {ct : Nat → ClassId} {a : XA} {ρ : Option Nat} {st : XS} {j1 : Nat} {a2 : Int32} {z : XS} (S : CallFix p m c cc nL s args lw_all own) (hl : lv_has ls nL lv) (hE : gEX s) (hK : va_K D clA (tysG ct) s) (hH : GH D A (xAs a) H0 (WX ct a ρ st) H locs) (hlk : Cond.methodLink own idx yX0_readBack ∈ lw_all) (hv : X_readBack_know st j1 a2 = some z) (hj1 : j1 < 3) (hR : 2 ≤ R.frames ∧ 82 ≤ R.locals) (hsum : (rest.map fun v => v.category).sum ≤ 8) (hdg : decode cc pc = .ok (.invokevirtual idx, 3)) (hf : cells ≤ R.cells ∧ slots ≤ R.slots)
    (k : ∀ (H1 : Heap) (locs1 : List Loc), GH D A (xAs a) H0 (WX ct a ρ z) H1 locs1 → W p l e R s m args below meth c H1 locs1 cells slots Q (F0 m (pc + 3) ls (rest))) : W p l e R s m args below meth c H locs cells slots Q (F0 m pc ls (.int a2 :: va_rf (ak3 a j1) :: .ref (ah a 0) :: rest)) :=
  g_callv (av := [va_rf (ak3 a j1), .int a2]) S hl gEX_ok hE hK hH (met_X_readBack_know l D ct a ρ H.size st j1 a2 hj1 z hv) (lw_V hlk q697 qs23 q69 q698) rfl rfl ⟨rfl, by decide, by decide, by show (parseMethodDescriptor yX0_readBack.desc).map (fun d => d.parameters.length) = some 2; decide +kernel⟩ hR (x_recv hK hH) (fun _ h => Or.inl h) rfl hsum hdg hf k
end CR_X_readBack_know
/-! CapCouncil.on (I)I -/
def X_on (st : XS) (a1 : Int32) : Option (XS × Int32) :=
  (X_isKept a1).bind fun v1 =>
  if v1 = 0 then
    (some (st, (-1 : Int32)))
  else
    ((bs_ix 3 a1).bind fun v3 =>
    if (xk st v3).isSome = true then
      ((bs_ix 3 a1).bind fun v5 =>
      (xkd st v5).bind fun v6 =>
      bs_let (sxi st 9 v6) fun s7 =>
      bs_g (xk s7 v5).isSome <|
      bs_g (xk s7 v5).isSome <|
      (bs_cp (xkA s7 v5) 560 (xa s7 7) 560 (0 : Int32) (0 : Int32) ((14 : Int32) * (xi s7 9))).bind fun f10 =>
      bs_let (sxa s7 7 f10) fun s11 =>
      bs_g (xk s11 v5).isSome <|
      (X_readBack_know s11 v5 (0 : Int32)).bind fun q13 =>
      some (q13, (xi q13 9)))
    else
      ((X_found st (1 : Int32)).bind fun q14 =>
      some (q14.1, q14.2)))
def rm_X_on : Room := { frames := 2, cells := 0, slots := 0, locals := 82 }
set_option maxHeartbeats 4000000 in
set_option maxRecDepth 100000 in
theorem met_X_on (l : Launch) (D : va_G) (ct : Nat → ClassId) (a : XA) (ρ : Option Nat) (sz : Nat) (st : XS) (a1 : Int32) (z : (XS × Int32)) (hd : X_on st a1 = some z) : Met l yX0_on (ws_ yX0_on cX0_on 3 (some .int)) rm_X_on (GPre gEX D ct (xAs a) (WX ct a ρ st) sz [.ref (ah a 0), .int a1]) (GQi D (xAs a) (xAs a) (WX ct a ρ z.1) sz z.2) 0 0 (gA (xAs a) sz) := by
  refine g_met (cc := cX0_on) (maxL := 3) (ret := (some .int)) (by decide) (Nat.le_of_ble_eq_true rfl) ?_
  intro p e U m args below meth c ls S hr hlk hK hH hE hsz hl
  have S : CallFix p m c cX0_on 3 U args lw_all RX0 := S
  have hx := S.1
  have hb := S.2.1
  have hl : lv_has ls 3 [(0, .ref (ah a 0)), (1, .int a1)] := hl
  unfold X_on at hd
  refine lv_iload_n (pc := 0) hx hb dX0_on_0 rfl (lv_at hl 1 rfl) ?_
  obtain ⟨v1, hv1, hd⟩ := bs_bd hd
  refine call_X_isKept (pc := 1) S hl q703 hv1 ⟨Nat.le_of_ble_eq_true rfl, Nat.le_of_ble_eq_true rfl⟩ (Nat.le_of_ble_eq_true rfl) dX0_on_1 ⟨Nat.zero_le _, Nat.zero_le _⟩ ?_
  refine lv_if_ne (pc := 4) (tgt := 9) hx hb dX0_on_4 (by decide) (fun c2 => ?_) (fun c2 => ?_)
  · have hd := if_n c2 hd
    refine lv_aload_n (pc := 9) hx hb dX0_on_9 rfl (lv_at hl 0 rfl) ?_
    refine xg_kept (pc := 10) S hK hH dX0_on_10 ?_
    refine lv_iload_n (pc := 13) hx hb dX0_on_13 rfl (lv_at hl 1 rfl) ?_
    obtain ⟨v3, hv3, hd⟩ := bs_bd hd
    refine xq_kept (pc := 14) S hK hH hv3 dX0_on_14 ?_
    refine lv_ifnonnullO (pc := 15) (tgt := 24) hx hb dX0_on_15 (by decide) (fun c4 => ?_) (fun c4 => ?_)
    · have hd := if_t ((xo_k hH (bs_ix_lt hv3)).symm.trans c4) hd
      refine lv_aload_n (pc := 24) hx hb dX0_on_24 rfl (lv_at hl 0 rfl) ?_
      refine xg_kept (pc := 25) S hK hH dX0_on_25 ?_
      refine lv_iload_n (pc := 28) hx hb dX0_on_28 rfl (lv_at hl 1 rfl) ?_
      obtain ⟨v5, hv5, hd⟩ := bs_bd hd
      refine xq_kept (pc := 29) S hK hH hv5 dX0_on_29 ?_
      refine lv_astore_nO (pc := 30) (lv' := [(2, va_rf (ak1 a v5)), (0, .ref (ah a 0)), (1, .int a1)]) hx hb dX0_on_30 rfl hl (by decide) rfl (fun ls hl => ?_)
      refine lv_aload_n (pc := 31) hx hb dX0_on_31 rfl (lv_at hl 1 rfl) ?_
      refine lv_aload_nO (pc := 32) hx hb dX0_on_32 rfl (lv_at hl 0 rfl) ?_
      obtain ⟨v6, hv6, hd⟩ := bs_bd hd
      refine xk_deed (pc := 33) S hE hK hH (bs_ix_lt hv5) hv6 dX0_on_33 ?_
      obtain ⟨s7, es7, hd⟩ := bs_let_spec hd
      refine xp_deedMany (pc := 36) S hK hH dX0_on_36 es7 (fun H locs hH => ?_)
      refine lv_aload_nO (pc := 39) hx hb dX0_on_39 rfl (lv_at hl 0 rfl) ?_
      obtain ⟨z8, hd⟩ := bs_g_spec hd
      refine xk_ahead (pc := 40) S hE hK hH (bs_ix_lt hv5) z8 dX0_on_40 ?_
      refine lv_iconst (v := (0 : Int32)) (pc := 43) hx hb dX0_on_43 (by decide) ?_
      refine lv_aload_n (pc := 44) hx hb dX0_on_44 rfl (lv_at hl 1 rfl) ?_
      refine xg_ahead (pc := 45) S hK hH dX0_on_45 ?_
      refine lv_iconst (v := (0 : Int32)) (pc := 48) hx hb dX0_on_48 (by decide) ?_
      refine lv_bipush (v := (14 : Int32)) (pc := 49) hx hb dX0_on_49 (by decide) ?_
      refine lv_aload_n (pc := 51) hx hb dX0_on_51 rfl (lv_at hl 1 rfl) ?_
      refine xg_deedMany (pc := 52) S hK hH dX0_on_52 ?_
      refine lv_imul (pc := 55) hx hb dX0_on_55 ?_
      obtain ⟨z9, hd⟩ := bs_g_spec hd
      obtain ⟨f10, hf10, hd⟩ := bs_bd hd
      obtain ⟨s11, es11, hd⟩ := bs_let_spec hd
      refine xc_kah_ahead (pc := 56) S hl hK hH (bs_ix_lt hv5) z9 hf10 es11 ⟨Nat.le_of_ble_eq_true rfl, Nat.le_of_ble_eq_true rfl⟩ (by simp [va_rf_cat, vc_int, vc_ref, vc_long]) dX0_on_56 (fun H locs hH => ?_)
      refine lv_aload_n (pc := 59) hx hb dX0_on_59 rfl (lv_at hl 1 rfl) ?_
      refine lv_aload_nO (pc := 60) hx hb dX0_on_60 rfl (lv_at hl 0 rfl) ?_
      obtain ⟨z12, hd⟩ := bs_g_spec hd
      refine xk_now (pc := 61) S hE hK hH (bs_ix_lt hv5) z12 dX0_on_61 ?_
      refine lv_iconst (v := (0 : Int32)) (pc := 64) hx hb dX0_on_64 (by decide) ?_
      obtain ⟨q13, hq13, hd⟩ := bs_bd hd
      refine call_X_readBack_know (pc := 65) S hl hE hK hH q695 hq13 (bs_ix_lt hv5) ⟨Nat.le_of_ble_eq_true rfl, Nat.le_of_ble_eq_true rfl⟩ (Nat.le_of_ble_eq_true rfl) dX0_on_65 ⟨Nat.zero_le _, Nat.zero_le _⟩ (fun H locs hH => ?_)
      refine lv_aload_n (pc := 68) hx hb dX0_on_68 rfl (lv_at hl 1 rfl) ?_
      refine xg_deedMany (pc := 69) S hK hH dX0_on_69 ?_
      exact g_iret (WX ct a ρ) hd S hr hlk hH dX0_on_72
    · have hd := if_n (fun h9 => c4 ((xo_k hH (bs_ix_lt hv3)).trans h9)) hd
      refine lv_aload_n (pc := 18) hx hb dX0_on_18 rfl (lv_at hl 0 rfl) ?_
      refine lv_iconst (v := (1 : Int32)) (pc := 19) hx hb dX0_on_19 (by decide) ?_
      obtain ⟨q14, hq14, hd⟩ := bs_bd hd
      refine call_X_found (pc := 20) S hl hE hK hH q288 hq14 ⟨Nat.le_of_ble_eq_true rfl, Nat.le_of_ble_eq_true rfl⟩ (Nat.le_of_ble_eq_true rfl) dX0_on_20 ⟨Nat.zero_le _, Nat.zero_le _⟩ (fun H locs hH => ?_)
      exact g_iret (WX ct a ρ) hd S hr hlk hH dX0_on_23
  · have hd := if_t c2 hd
    refine lv_iconst (v := (-1 : Int32)) (pc := 7) hx hb dX0_on_7 (by decide) ?_
    exact g_iret (WX ct a ρ) hd S hr hlk hH dX0_on_8
section CR_X_on
variable {p : Program} {l : Launch} {e : Env} {R : Room} {s : State} {m : MethodId} {args : Array Value} {below : List Frame} {meth : Method} {c : Code} {H : Heap} {locs : List Loc} {cells slots : Nat} {Q : State → Prop}
variable {cc : ByteArray} {pc nL idx : Nat} {ls : Array Slot} {rest : List Value} {lv : List (Nat × Value)} {A : Nat → Prop} {H0 : Heap} {own : String}
theorem call_X_on {D : va_G} {ct : Nat → ClassId} {a : XA} {ρ : Option Nat} {st : XS} {a1 : Int32} {z : (XS × Int32)} (S : CallFix p m c cc nL s args lw_all own) (hl : lv_has ls nL lv) (hE : gEX s) (hK : va_K D clA (tysG ct) s) (hH : GH D A (xAs a) H0 (WX ct a ρ st) H locs) (hlk : Cond.methodLink own idx yX0_on ∈ lw_all) (hv : X_on st a1 = some z) (hR : 3 ≤ R.frames ∧ 104 ≤ R.locals) (hsum : (rest.map fun v => v.category).sum ≤ 8) (hdg : decode cc pc = .ok (.invokevirtual idx, 3)) (hf : cells ≤ R.cells ∧ slots ≤ R.slots)
    (k : ∀ (H1 : Heap) (locs1 : List Loc), GH D A (xAs a) H0 (WX ct a ρ z.1) H1 locs1 → W p l e R s m args below meth c H1 locs1 cells slots Q (F0 m (pc + 3) ls (.int z.2 :: rest))) : W p l e R s m args below meth c H locs cells slots Q (F0 m pc ls (.int a1 :: .ref (ah a 0) :: rest)) :=
  g_calli (av := [.int a1]) S hl gEX_ok hE hK hH (met_X_on l D ct a ρ H.size st a1 z hv) (lw_V hlk q724 q725 q69 q726) rfl rfl ⟨rfl, by decide, by decide, by show (parseMethodDescriptor yX0_on.desc).map (fun d => d.parameters.length) = some 1; decide +kernel⟩ hR (x_recv hK hH) (fun _ h => Or.inl h) rfl hsum hdg hf k
end CR_X_on
/-! CapCouncil.sits (I)I -/
def X_sits_L25 (st : XS) (a1 : Int32) : Nat → Int32 → Int32 → Option Int32
  | 0, _, _ => none
  | n + 1, x2, x3 =>
    if (xi st 3) ≤ x3 then
      (some x2)
    else
      ((bs_ld (xa st 5) 6 x3).bind fun v5 =>
      (X_ringsAt st v5).bind fun v6 =>
      (J11_bitCount v6).bind fun v7 =>
      if v7 < a1 then
        (bs_let (x2 ||| (0 : Int32)) fun w9 =>
        bs_let (x3 + (1 : Int32)) fun w10 =>
        X_sits_L25 st a1 n w9 w10)
      else
        (bs_let (x2 ||| ((1 : Int32) <<< (x3 &&& 31))) fun w11 =>
        bs_let (x3 + (1 : Int32)) fun w12 =>
        X_sits_L25 st a1 n w11 w12))
def X_sits (st : XS) (a1 : Int32) : Option Int32 :=
  (X_isIn a1 (0 : Int32) (5 : Int32)).bind fun v1 =>
  if v1 = 0 then
    (some (-1 : Int32))
  else
    (if (xi st 2) = 0 then
      (some (-4 : Int32))
    else
      (X_sits_L25 st a1 bs_fu (0 : Int32) (0 : Int32)))
def rm_X_sits : Room := { frames := 6, cells := 0, slots := 0, locals := 166 }
set_option maxHeartbeats 4000000 in
set_option maxRecDepth 100000 in
theorem met_X_sits (l : Launch) (D : va_G) (ct : Nat → ClassId) (a : XA) (ρ : Option Nat) (sz : Nat) (st : XS) (a1 : Int32) (z : Int32) (hd : X_sits st a1 = some z) : Met l yX0_sits (ws_ yX0_sits cX0_sits 4 (some .int)) rm_X_sits (GPre gEX D ct (xAs a) (WX ct a ρ st) sz [.ref (ah a 0), .int a1]) (vp_Si (fun r => r = z)) 0 0 (fun _ => False) := by
  refine g_met (cc := cX0_sits) (maxL := 4) (ret := (some .int)) (by decide) (Nat.le_of_ble_eq_true rfl) ?_
  intro p e U m args below meth c ls S hr hlk hK hH hE hsz hl
  have S : CallFix p m c cX0_sits 4 U args lw_all RX0 := S
  have hx := S.1
  have hb := S.2.1
  have hl : lv_has ls 4 [(0, .ref (ah a 0)), (1, .int a1)] := hl
  have h25 : ∀ (n25 : Nat) (x2 : Int32) (x3 : Int32) (ls : Array Slot), lv_has ls 4 [(0, .ref (ah a 0)), (1, .int a1), (2, .int x2), (3, .int x3)] → X_sits_L25 st a1 n25 x2 x3 = some z → W p l e rm_X_sits U m args below meth c U.heap [] 0 0 (MQ below (vp_Si (fun r => r = z)) args U 0 0 (fun _ => False)) (F0 m 25 ls []) := by
    intro n25
    induction n25 with
    | zero =>
      intro x2 x3 ls hl hd
      rw [X_sits_L25] at hd
      cases hd
    | succ n25 ih25 =>
      intro x2 x3 ls hl hd
      rw [X_sits_L25] at hd
      refine lv_iload_n (pc := 25) hx hb dX0_sits_25 rfl (lv_at hl 3 rfl) ?_
      refine lv_aload_n (pc := 26) hx hb dX0_sits_26 rfl (lv_at hl 0 rfl) ?_
      refine xg_bedMany (pc := 27) S hK hH dX0_sits_27 ?_
      refine lv_icmp_ge (pc := 30) (tgt := 66) hx hb dX0_sits_30 (by decide) (fun c4 => ?_) (fun c4 => ?_)
      · have hd := if_t c4 hd
        refine lv_iload_n (pc := 66) hx hb dX0_sits_66 rfl (lv_at hl 2 rfl) ?_
        exact r_iret hd S hr hlk dX0_sits_67
      · have hd := if_n c4 hd
        refine lv_iload_n (pc := 33) hx hb dX0_sits_33 rfl (lv_at hl 2 rfl) ?_
        refine lv_aload_n (pc := 34) hx hb dX0_sits_34 rfl (lv_at hl 0 rfl) ?_
        refine lv_aload_n (pc := 35) hx hb dX0_sits_35 rfl (lv_at hl 0 rfl) ?_
        refine xg_places (pc := 36) S hK hH dX0_sits_36 ?_
        refine lv_iload_n (pc := 39) hx hb dX0_sits_39 rfl (lv_at hl 3 rfl) ?_
        obtain ⟨v5, hv5, hd⟩ := bs_bd hd
        refine xl_places (pc := 40) S hK hH hv5 dX0_sits_40 ?_
        obtain ⟨v6, hv6, hd⟩ := bs_bd hd
        refine call_X_ringsAt (pc := 41) S hl hE hK hH q577 hv6 ⟨Nat.le_of_ble_eq_true rfl, Nat.le_of_ble_eq_true rfl⟩ (Nat.le_of_ble_eq_true rfl) dX0_sits_41 ⟨Nat.zero_le _, Nat.zero_le _⟩ ?_
        obtain ⟨v7, hv7, hd⟩ := bs_bd hd
        refine call_J11_bitCount (pc := 44) S hl q669 hv7 ⟨Nat.le_of_ble_eq_true rfl, Nat.le_of_ble_eq_true rfl⟩ (Nat.le_of_ble_eq_true rfl) dX0_sits_44 ⟨Nat.zero_le _, Nat.zero_le _⟩ ?_
        refine lv_iload_n (pc := 47) hx hb dX0_sits_47 rfl (lv_at hl 1 rfl) ?_
        refine lv_icmp_lt (pc := 48) (tgt := 57) hx hb dX0_sits_48 (by decide) (fun c8 => ?_) (fun c8 => ?_)
        · have hd := if_t c8 hd
          refine lv_iconst (v := (0 : Int32)) (pc := 57) hx hb dX0_sits_57 (by decide) ?_
          refine lv_ior (pc := 58) hx hb dX0_sits_58 ?_
          obtain ⟨w9, ew9, hd⟩ := bs_let_spec hd
          refine lv_topE (pc := 59) ew9 ?_
          refine lv_istore_n (pc := 59) (lv' := [(2, .int w9), (0, .ref (ah a 0)), (1, .int a1), (3, .int x3)]) hx hb dX0_sits_59 rfl hl (by decide) rfl (fun ls hl => ?_)
          obtain ⟨w10, ew10, hd⟩ := bs_let_spec hd
          refine lv_iinc (pc := 60) (v := w10) (lv' := [(3, .int w10), (2, .int w9), (0, .ref (ah a 0)), (1, .int a1)]) hx hb dX0_sits_60 hl (k := 3) rfl (by rw [ew10]; rfl) (by decide) rfl (fun ls hl => ?_)
          refine lv_goto (pc := 63) (tgt := 25) hx hb dX0_sits_63 (by decide) ?_
          exact ih25 w9 w10 _ (lv_sub hl [2, 3, 1, 0] rfl) hd
        · have hd := if_n c8 hd
          refine lv_iconst (v := (1 : Int32)) (pc := 51) hx hb dX0_sits_51 (by decide) ?_
          refine lv_iload_n (pc := 52) hx hb dX0_sits_52 rfl (lv_at hl 3 rfl) ?_
          refine lv_ishl (pc := 53) hx hb dX0_sits_53 ?_
          refine lv_goto (pc := 54) (tgt := 58) hx hb dX0_sits_54 (by decide) ?_
          refine lv_ior (pc := 58) hx hb dX0_sits_58 ?_
          obtain ⟨w11, ew11, hd⟩ := bs_let_spec hd
          refine lv_topE (pc := 59) ew11 ?_
          refine lv_istore_n (pc := 59) (lv' := [(2, .int w11), (0, .ref (ah a 0)), (1, .int a1), (3, .int x3)]) hx hb dX0_sits_59 rfl hl (by decide) rfl (fun ls hl => ?_)
          obtain ⟨w12, ew12, hd⟩ := bs_let_spec hd
          refine lv_iinc (pc := 60) (v := w12) (lv' := [(3, .int w12), (2, .int w11), (0, .ref (ah a 0)), (1, .int a1)]) hx hb dX0_sits_60 hl (k := 3) rfl (by rw [ew12]; rfl) (by decide) rfl (fun ls hl => ?_)
          refine lv_goto (pc := 63) (tgt := 25) hx hb dX0_sits_63 (by decide) ?_
          exact ih25 w11 w12 _ (lv_sub hl [2, 3, 1, 0] rfl) hd
  unfold X_sits at hd
  refine lv_iload_n (pc := 0) hx hb dX0_sits_0 rfl (lv_at hl 1 rfl) ?_
  refine lv_iconst (v := (0 : Int32)) (pc := 1) hx hb dX0_sits_1 (by decide) ?_
  refine lv_iconst (v := (5 : Int32)) (pc := 2) hx hb dX0_sits_2 (by decide) ?_
  obtain ⟨v1, hv1, hd⟩ := bs_bd hd
  refine call_X_isIn (pc := 3) S hl q285 hv1 ⟨Nat.le_of_ble_eq_true rfl, Nat.le_of_ble_eq_true rfl⟩ (Nat.le_of_ble_eq_true rfl) dX0_sits_3 ⟨Nat.zero_le _, Nat.zero_le _⟩ ?_
  refine lv_if_ne (pc := 6) (tgt := 11) hx hb dX0_sits_6 (by decide) (fun c2 => ?_) (fun c2 => ?_)
  · have hd := if_n c2 hd
    refine lv_aload_n (pc := 11) hx hb dX0_sits_11 rfl (lv_at hl 0 rfl) ?_
    refine xg_ringMany (pc := 12) S hK hH dX0_sits_12 ?_
    refine lv_if_ne (pc := 15) (tgt := 21) hx hb dX0_sits_15 (by decide) (fun c3 => ?_) (fun c3 => ?_)
    · have hd := if_n c3 hd
      refine lv_iconst (v := (0 : Int32)) (pc := 21) hx hb dX0_sits_21 (by decide) ?_
      refine lv_istore_n (pc := 22) (lv' := [(2, .int (0 : Int32)), (0, .ref (ah a 0)), (1, .int a1)]) hx hb dX0_sits_22 rfl hl (by decide) rfl (fun ls hl => ?_)
      refine lv_iconst (v := (0 : Int32)) (pc := 23) hx hb dX0_sits_23 (by decide) ?_
      refine lv_istore_n (pc := 24) (lv' := [(3, .int (0 : Int32)), (2, .int (0 : Int32)), (0, .ref (ah a 0)), (1, .int a1)]) hx hb dX0_sits_24 rfl hl (by decide) rfl (fun ls hl => ?_)
      exact h25 bs_fu (0 : Int32) (0 : Int32) _ (lv_sub hl [2, 3, 1, 0] rfl) hd
    · have hd := if_t c3 hd
      refine lv_bipush (v := (-4 : Int32)) (pc := 18) hx hb dX0_sits_18 (by decide) ?_
      exact r_iret hd S hr hlk dX0_sits_20
  · have hd := if_t c2 hd
    refine lv_iconst (v := (-1 : Int32)) (pc := 9) hx hb dX0_sits_9 (by decide) ?_
    exact r_iret hd S hr hlk dX0_sits_10
section CR_X_sits
variable {p : Program} {l : Launch} {e : Env} {R : Room} {s : State} {m : MethodId} {args : Array Value} {below : List Frame} {meth : Method} {c : Code} {H : Heap} {locs : List Loc} {cells slots : Nat} {Q : State → Prop}
variable {cc : ByteArray} {pc nL idx : Nat} {ls : Array Slot} {rest : List Value} {lv : List (Nat × Value)} {A : Nat → Prop} {H0 : Heap} {own : String}
theorem call_X_sits {D : va_G} {ct : Nat → ClassId} {a : XA} {ρ : Option Nat} {st : XS} {a1 : Int32} {z : Int32} (S : CallFix p m c cc nL s args lw_all own) (hl : lv_has ls nL lv) (hE : gEX s) (hK : va_K D clA (tysG ct) s) (hH : GH D A (xAs a) H0 (WX ct a ρ st) H locs) (hlk : Cond.methodLink own idx yX0_sits ∈ lw_all) (hv : X_sits st a1 = some z) (hR : 7 ≤ R.frames ∧ 189 ≤ R.locals) (hsum : (rest.map fun v => v.category).sum ≤ 8) (hdg : decode cc pc = .ok (.invokevirtual idx, 3)) (hf : cells ≤ R.cells ∧ slots ≤ R.slots)
    (k : W p l e R s m args below meth c H locs cells slots Q (F0 m (pc + 3) ls (.int z :: rest))) : W p l e R s m args below meth c H locs cells slots Q (F0 m pc ls (.int a1 :: .ref (ah a 0) :: rest)) :=
  r_calli (av := [.int a1]) S hl gEX_ok hE hK hH (met_X_sits l D ct a ρ H.size st a1 z hv) (lw_V hlk q728 q729 q69 q730) rfl rfl ⟨rfl, by decide, by decide, by show (parseMethodDescriptor yX0_sits.desc).map (fun d => d.parameters.length) = some 1; decide +kernel⟩ hR (x_recv hK hH) rfl hsum hdg hf k
end CR_X_sits
/-! CapCouncil.common (I)I -/
def X_common_J105 (k26 : XS → Int32 → Int32 → Int32 → Option (XS × Int32)) (a1 : Int32) (st : XS) (x2 : Int32) (x4 : Int32) (x5 : Int32) (y0 : Int32) : Option (XS × Int32) :=
  if x5 = 0 then
    (bs_let (x2 + (0 : Int32)) fun w19 =>
    bs_let (x4 + (1 : Int32)) fun w20 =>
    k26 st w19 y0 w20)
  else
    (bs_let (x2 + (1 : Int32)) fun w21 =>
    bs_let (x4 + (1 : Int32)) fun w22 =>
    k26 st w21 y0 w22)
def X_common_J90 (k26 : XS → Int32 → Int32 → Int32 → Option (XS × Int32)) (a1 : Int32) (st : XS) (x2 : Int32) (x3 : Int32) (x4 : Int32) (x5 : Int32) : Option (XS × Int32) :=
  if x5 = 0 then
    (X_common_J105 (k26) a1 st x2 x4 x5 x3)
  else
    (if x2 = 0 then
      (X_common_J105 (k26) a1 st x2 x4 x5 x4)
    else
      (X_common_J105 (k26) a1 st x2 x4 x5 x3))
def X_common_L39 (k90 : XS → Int32 → Int32 → Int32 → Int32 → Option (XS × Int32)) (a1 : Int32) : Nat → XS → Int32 → Int32 → Int32 → Int32 → Int32 → Option (XS × Int32)
  | 0, _, _, _, _, _, _ => none
  | n + 1, st, x2, x3, x4, x5, x6 =>
    if (xi st 2) ≤ x6 then
      (k90 st x2 x3 x4 x5)
    else
      (if x5 = 0 then
        (bs_let (x6 + (1 : Int32)) fun w8 =>
        X_common_L39 k90 a1 n st x2 x3 x4 (0 : Int32) w8)
      else
        ((X_has a1 x6).bind fun v9 =>
        if v9 = 0 then
          (bs_let (x6 + (1 : Int32)) fun w11 =>
          X_common_L39 k90 a1 n st x2 x3 x4 (1 : Int32) w11)
        else
          ((X_isWithin st x6 x4 (xi st 7)).bind fun v12 =>
          if v12 = 0 then
            (bs_let (x6 + (1 : Int32)) fun w14 =>
            X_common_L39 k90 a1 n st x2 x3 x4 (0 : Int32) w14)
          else
            (bs_let (x6 + (1 : Int32)) fun w15 =>
            X_common_L39 k90 a1 n st x2 x3 x4 (1 : Int32) w15))))
def X_common_L26 (k125 : XS → Int32 → Int32 → Option (XS × Int32)) (a1 : Int32) : Nat → XS → Int32 → Int32 → Int32 → Option (XS × Int32)
  | 0, _, _, _, _ => none
  | n + 1, st, x2, x3, x4 =>
    if (100 : Int32) ≤ x4 then
      (k125 st x2 x3)
    else
      (X_common_L39 (X_common_J90 (X_common_L26 k125 a1 n) a1) a1 bs_fu st x2 x3 x4 (1 : Int32) (0 : Int32))
def X_common_J125 (a1 : Int32) (st : XS) (x2 : Int32) (x3 : Int32) : Option (XS × Int32) :=
  if x2 = 0 then
    (some (st, (0 : Int32)))
  else
    ((X_ask st x3 x2).bind fun q5 =>
    some (q5.1, q5.2))
def X_common (st : XS) (a1 : Int32) : Option (XS × Int32) :=
  (X_isIn a1 (0 : Int32) (((1 : Int32) <<< ((xi st 2) &&& 31)) - (1 : Int32))).bind fun v1 =>
  if v1 = 0 then
    (some (st, (-1 : Int32)))
  else
    (X_common_L26 (X_common_J125 a1) a1 bs_fu st (0 : Int32) (-9 : Int32) (0 : Int32))
def rm_X_common : Room := { frames := 5, cells := 0, slots := 0, locals := 143 }
set_option maxHeartbeats 4000000 in
set_option maxRecDepth 100000 in
theorem met_X_common (l : Launch) (D : va_G) (ct : Nat → ClassId) (a : XA) (ρ : Option Nat) (sz : Nat) (st : XS) (a1 : Int32) (z : (XS × Int32)) (hd : X_common st a1 = some z) : Met l yX0_common (ws_ yX0_common cX0_common 7 (some .int)) rm_X_common (GPre gEX D ct (xAs a) (WX ct a ρ st) sz [.ref (ah a 0), .int a1]) (GQi D (xAs a) (xAs a) (WX ct a ρ z.1) sz z.2) 0 0 (gA (xAs a) sz) := by
  refine g_met (cc := cX0_common) (maxL := 7) (ret := (some .int)) (by decide) (Nat.le_of_ble_eq_true rfl) ?_
  intro p e U m args below meth c ls S hr hlk hK hH hE hsz hl
  have S : CallFix p m c cX0_common 7 U args lw_all RX0 := S
  have hx := S.1
  have hb := S.2.1
  have hl : lv_has ls 7 [(0, .ref (ah a 0)), (1, .int a1)] := hl
  have h125 : ∀ (st : XS) (x2 : Int32) (x3 : Int32) (H : Heap) (locs : List Loc) (ls : Array Slot), GH D (gA (xAs a) sz) (xAs a) U.heap (WX ct a ρ st) H locs → lv_has ls 7 [(0, .ref (ah a 0)), (1, .int a1), (2, .int x2), (3, .int x3)] → X_common_J125 a1 st x2 x3 = some z → W p l e rm_X_common U m args below meth c H locs 0 0 (MQ below (GQi D (xAs a) (xAs a) (WX ct a ρ z.1) sz z.2) args U 0 0 (gA (xAs a) sz)) (F0 m 125 ls []) := by
    intro st x2 x3 H locs ls hH hl hd
    unfold X_common_J125 at hd
    refine lv_iload_n (pc := 125) hx hb dX0_common_125 rfl (lv_at hl 2 rfl) ?_
    refine lv_if_ne (pc := 126) (tgt := 133) hx hb dX0_common_126 (by decide) (fun c4 => ?_) (fun c4 => ?_)
    · have hd := if_n c4 hd
      refine lv_aload_n (pc := 133) hx hb dX0_common_133 rfl (lv_at hl 0 rfl) ?_
      refine lv_iload_n (pc := 134) hx hb dX0_common_134 rfl (lv_at hl 3 rfl) ?_
      refine lv_iload_n (pc := 135) hx hb dX0_common_135 rfl (lv_at hl 2 rfl) ?_
      obtain ⟨q5, hq5, hd⟩ := bs_bd hd
      refine call_X_ask (pc := 136) S hl hE hK hH q344 hq5 ⟨Nat.le_of_ble_eq_true rfl, Nat.le_of_ble_eq_true rfl⟩ (Nat.le_of_ble_eq_true rfl) dX0_common_136 ⟨Nat.zero_le _, Nat.zero_le _⟩ (fun H locs hH => ?_)
      exact g_iret (WX ct a ρ) hd S hr hlk hH dX0_common_139
    · have hd := if_t c4 hd
      refine lv_iconst (v := (0 : Int32)) (pc := 129) hx hb dX0_common_129 (by decide) ?_
      refine lv_goto (pc := 130) (tgt := 139) hx hb dX0_common_130 (by decide) ?_
      exact g_iret (WX ct a ρ) hd S hr hlk hH dX0_common_139
  have h26 : ∀ (n26 : Nat) (st : XS) (x2 : Int32) (x3 : Int32) (x4 : Int32) (H : Heap) (locs : List Loc) (ls : Array Slot), GH D (gA (xAs a) sz) (xAs a) U.heap (WX ct a ρ st) H locs → lv_has ls 7 [(0, .ref (ah a 0)), (1, .int a1), (2, .int x2), (3, .int x3), (4, .int x4)] → X_common_L26 (X_common_J125 a1) a1 n26 st x2 x3 x4 = some z → W p l e rm_X_common U m args below meth c H locs 0 0 (MQ below (GQi D (xAs a) (xAs a) (WX ct a ρ z.1) sz z.2) args U 0 0 (gA (xAs a) sz)) (F0 m 26 ls []) := by
    intro n26
    induction n26 with
    | zero =>
      intro st x2 x3 x4 H locs ls hH hl hd
      rw [X_common_L26] at hd
      cases hd
    | succ n26 ih26 =>
      have h105 : ∀ (st : XS) (x2 : Int32) (x4 : Int32) (x5 : Int32) (y0 : Int32) (H : Heap) (locs : List Loc) (ls : Array Slot), GH D (gA (xAs a) sz) (xAs a) U.heap (WX ct a ρ st) H locs → lv_has ls 7 [(0, .ref (ah a 0)), (1, .int a1), (2, .int x2), (4, .int x4), (5, .int x5)] → X_common_J105 (X_common_L26 (X_common_J125 a1) a1 n26) a1 st x2 x4 x5 y0 = some z → W p l e rm_X_common U m args below meth c H locs 0 0 (MQ below (GQi D (xAs a) (xAs a) (WX ct a ρ z.1) sz z.2) args U 0 0 (gA (xAs a) sz)) (F0 m 105 ls [.int y0]) := by
        intro st x2 x4 x5 y0 H locs ls hH hl hd
        unfold X_common_J105 at hd
        refine lv_istore_n (pc := 105) (lv' := [(3, .int y0), (0, .ref (ah a 0)), (1, .int a1), (2, .int x2), (4, .int x4), (5, .int x5)]) hx hb dX0_common_105 rfl hl (by decide) rfl (fun ls hl => ?_)
        refine lv_iload_n (pc := 106) hx hb dX0_common_106 rfl (lv_at hl 3 rfl) ?_
        refine lv_iload (pc := 107) hx hb dX0_common_107 (lv_at hl 5 rfl) ?_
        refine lv_if_eq (pc := 109) (tgt := 116) hx hb dX0_common_109 (by decide) (fun c18 => ?_) (fun c18 => ?_)
        · have hd := if_t c18 hd
          refine lv_iconst (v := (0 : Int32)) (pc := 116) hx hb dX0_common_116 (by decide) ?_
          refine lv_iadd (pc := 117) hx hb dX0_common_117 ?_
          obtain ⟨w19, ew19, hd⟩ := bs_let_spec hd
          refine lv_topE (pc := 118) ew19 ?_
          refine lv_istore_n (pc := 118) (lv' := [(2, .int w19), (3, .int y0), (0, .ref (ah a 0)), (1, .int a1), (4, .int x4), (5, .int x5)]) hx hb dX0_common_118 rfl hl (by decide) rfl (fun ls hl => ?_)
          obtain ⟨w20, ew20, hd⟩ := bs_let_spec hd
          refine lv_iinc (pc := 119) (v := w20) (lv' := [(4, .int w20), (2, .int w19), (3, .int y0), (0, .ref (ah a 0)), (1, .int a1), (5, .int x5)]) hx hb dX0_common_119 hl (k := 4) rfl (by rw [ew20]; rfl) (by decide) rfl (fun ls hl => ?_)
          refine lv_goto (pc := 122) (tgt := 26) hx hb dX0_common_122 (by decide) ?_
          exact ih26 st w19 y0 w20 _ _ _ hH (lv_sub hl [3, 4, 1, 2, 0] rfl) hd
        · have hd := if_n c18 hd
          refine lv_iconst (v := (1 : Int32)) (pc := 112) hx hb dX0_common_112 (by decide) ?_
          refine lv_goto (pc := 113) (tgt := 117) hx hb dX0_common_113 (by decide) ?_
          refine lv_iadd (pc := 117) hx hb dX0_common_117 ?_
          obtain ⟨w21, ew21, hd⟩ := bs_let_spec hd
          refine lv_topE (pc := 118) ew21 ?_
          refine lv_istore_n (pc := 118) (lv' := [(2, .int w21), (3, .int y0), (0, .ref (ah a 0)), (1, .int a1), (4, .int x4), (5, .int x5)]) hx hb dX0_common_118 rfl hl (by decide) rfl (fun ls hl => ?_)
          obtain ⟨w22, ew22, hd⟩ := bs_let_spec hd
          refine lv_iinc (pc := 119) (v := w22) (lv' := [(4, .int w22), (2, .int w21), (3, .int y0), (0, .ref (ah a 0)), (1, .int a1), (5, .int x5)]) hx hb dX0_common_119 hl (k := 4) rfl (by rw [ew22]; rfl) (by decide) rfl (fun ls hl => ?_)
          refine lv_goto (pc := 122) (tgt := 26) hx hb dX0_common_122 (by decide) ?_
          exact ih26 st w21 y0 w22 _ _ _ hH (lv_sub hl [3, 4, 1, 2, 0] rfl) hd
      have h90 : ∀ (st : XS) (x2 : Int32) (x3 : Int32) (x4 : Int32) (x5 : Int32) (H : Heap) (locs : List Loc) (ls : Array Slot), GH D (gA (xAs a) sz) (xAs a) U.heap (WX ct a ρ st) H locs → lv_has ls 7 [(0, .ref (ah a 0)), (1, .int a1), (2, .int x2), (3, .int x3), (4, .int x4), (5, .int x5)] → X_common_J90 (X_common_L26 (X_common_J125 a1) a1 n26) a1 st x2 x3 x4 x5 = some z → W p l e rm_X_common U m args below meth c H locs 0 0 (MQ below (GQi D (xAs a) (xAs a) (WX ct a ρ z.1) sz z.2) args U 0 0 (gA (xAs a) sz)) (F0 m 90 ls []) := by
        intro st x2 x3 x4 x5 H locs ls hH hl hd
        unfold X_common_J90 at hd
        refine lv_iload (pc := 90) hx hb dX0_common_90 (lv_at hl 5 rfl) ?_
        refine lv_if_eq (pc := 92) (tgt := 104) hx hb dX0_common_92 (by decide) (fun c16 => ?_) (fun c16 => ?_)
        · have hd := if_t c16 hd
          refine lv_iload_n (pc := 104) hx hb dX0_common_104 rfl (lv_at hl 3 rfl) ?_
          exact h105 st x2 x4 x5 x3 _ _ _ hH (lv_sub hl [0, 1, 2, 4, 5] rfl) hd
        · have hd := if_n c16 hd
          refine lv_iload_n (pc := 95) hx hb dX0_common_95 rfl (lv_at hl 2 rfl) ?_
          refine lv_if_ne (pc := 96) (tgt := 104) hx hb dX0_common_96 (by decide) (fun c17 => ?_) (fun c17 => ?_)
          · have hd := if_n c17 hd
            refine lv_iload_n (pc := 104) hx hb dX0_common_104 rfl (lv_at hl 3 rfl) ?_
            exact h105 st x2 x4 x5 x3 _ _ _ hH (lv_sub hl [0, 1, 2, 4, 5] rfl) hd
          · have hd := if_t c17 hd
            refine lv_iload (pc := 99) hx hb dX0_common_99 (lv_at hl 4 rfl) ?_
            refine lv_goto (pc := 101) (tgt := 105) hx hb dX0_common_101 (by decide) ?_
            exact h105 st x2 x4 x5 x4 _ _ _ hH (lv_sub hl [0, 1, 2, 4, 5] rfl) hd
      have h39 : ∀ (n39 : Nat) (st : XS) (x2 : Int32) (x3 : Int32) (x4 : Int32) (x5 : Int32) (x6 : Int32) (H : Heap) (locs : List Loc) (ls : Array Slot), GH D (gA (xAs a) sz) (xAs a) U.heap (WX ct a ρ st) H locs → lv_has ls 7 [(0, .ref (ah a 0)), (1, .int a1), (2, .int x2), (3, .int x3), (4, .int x4), (5, .int x5), (6, .int x6)] → X_common_L39 (X_common_J90 (X_common_L26 (X_common_J125 a1) a1 n26) a1) a1 n39 st x2 x3 x4 x5 x6 = some z → W p l e rm_X_common U m args below meth c H locs 0 0 (MQ below (GQi D (xAs a) (xAs a) (WX ct a ρ z.1) sz z.2) args U 0 0 (gA (xAs a) sz)) (F0 m 39 ls []) := by
        intro n39
        induction n39 with
        | zero =>
          intro st x2 x3 x4 x5 x6 H locs ls hH hl hd
          rw [X_common_L39] at hd
          cases hd
        | succ n39 ih39 =>
          intro st x2 x3 x4 x5 x6 H locs ls hH hl hd
          rw [X_common_L39] at hd
          refine lv_iload (pc := 39) hx hb dX0_common_39 (lv_at hl 6 rfl) ?_
          refine lv_aload_n (pc := 41) hx hb dX0_common_41 rfl (lv_at hl 0 rfl) ?_
          refine xg_ringMany (pc := 42) S hK hH dX0_common_42 ?_
          refine lv_icmp_ge (pc := 45) (tgt := 90) hx hb dX0_common_45 (by decide) (fun c6 => ?_) (fun c6 => ?_)
          · have hd := if_t c6 hd
            exact h90 st x2 x3 x4 x5 _ _ _ hH (lv_sub hl [0, 1, 2, 3, 4, 5] rfl) hd
          · have hd := if_n c6 hd
            refine lv_iload (pc := 48) hx hb dX0_common_48 (lv_at hl 5 rfl) ?_
            refine lv_if_eq (pc := 50) (tgt := 81) hx hb dX0_common_50 (by decide) (fun c7 => ?_) (fun c7 => ?_)
            · have hd := if_t c7 hd
              refine lv_iconst (v := (0 : Int32)) (pc := 81) hx hb dX0_common_81 (by decide) ?_
              refine lv_istore (pc := 82) (lv' := [(5, .int (0 : Int32)), (0, .ref (ah a 0)), (1, .int a1), (2, .int x2), (3, .int x3), (4, .int x4), (6, .int x6)]) hx hb dX0_common_82 hl (by decide) rfl (fun ls hl => ?_)
              obtain ⟨w8, ew8, hd⟩ := bs_let_spec hd
              refine lv_iinc (pc := 84) (v := w8) (lv' := [(6, .int w8), (5, .int (0 : Int32)), (0, .ref (ah a 0)), (1, .int a1), (2, .int x2), (3, .int x3), (4, .int x4)]) hx hb dX0_common_84 hl (k := 6) rfl (by rw [ew8]; rfl) (by decide) rfl (fun ls hl => ?_)
              refine lv_goto (pc := 87) (tgt := 39) hx hb dX0_common_87 (by decide) ?_
              exact ih39 st x2 x3 x4 (0 : Int32) w8 _ _ _ hH (lv_sub hl [2, 3, 4, 5, 6, 1, 0] rfl) hd
            · have hd := if_n c7 hd
              refine lv_iload_n (pc := 53) hx hb dX0_common_53 rfl (lv_at hl 1 rfl) ?_
              refine lv_iload (pc := 54) hx hb dX0_common_54 (lv_at hl 6 rfl) ?_
              obtain ⟨v9, hv9, hd⟩ := bs_bd hd
              refine call_X_has (pc := 56) S hl q520 hv9 ⟨Nat.le_of_ble_eq_true rfl, Nat.le_of_ble_eq_true rfl⟩ (Nat.le_of_ble_eq_true rfl) dX0_common_56 ⟨Nat.zero_le _, Nat.zero_le _⟩ ?_
              refine lv_if_eq (pc := 59) (tgt := 77) hx hb dX0_common_59 (by decide) (fun c10 => ?_) (fun c10 => ?_)
              · have hd := if_t c10 hd
                refine lv_iconst (v := (1 : Int32)) (pc := 77) hx hb dX0_common_77 (by decide) ?_
                refine lv_goto (pc := 78) (tgt := 82) hx hb dX0_common_78 (by decide) ?_
                refine lv_istore (pc := 82) (lv' := [(5, .int (1 : Int32)), (0, .ref (ah a 0)), (1, .int a1), (2, .int x2), (3, .int x3), (4, .int x4), (6, .int x6)]) hx hb dX0_common_82 hl (by decide) rfl (fun ls hl => ?_)
                obtain ⟨w11, ew11, hd⟩ := bs_let_spec hd
                refine lv_iinc (pc := 84) (v := w11) (lv' := [(6, .int w11), (5, .int (1 : Int32)), (0, .ref (ah a 0)), (1, .int a1), (2, .int x2), (3, .int x3), (4, .int x4)]) hx hb dX0_common_84 hl (k := 6) rfl (by rw [ew11]; rfl) (by decide) rfl (fun ls hl => ?_)
                refine lv_goto (pc := 87) (tgt := 39) hx hb dX0_common_87 (by decide) ?_
                exact ih39 st x2 x3 x4 (1 : Int32) w11 _ _ _ hH (lv_sub hl [2, 3, 4, 5, 6, 1, 0] rfl) hd
              · have hd := if_n c10 hd
                refine lv_aload_n (pc := 62) hx hb dX0_common_62 rfl (lv_at hl 0 rfl) ?_
                refine lv_iload (pc := 63) hx hb dX0_common_63 (lv_at hl 6 rfl) ?_
                refine lv_iload (pc := 65) hx hb dX0_common_65 (lv_at hl 4 rfl) ?_
                refine lv_aload_n (pc := 67) hx hb dX0_common_67 rfl (lv_at hl 0 rfl) ?_
                refine xg_yearNow (pc := 68) S hK hH dX0_common_68 ?_
                obtain ⟨v12, hv12, hd⟩ := bs_bd hd
                refine call_X_isWithin (pc := 71) S hl hE hK hH q523 hv12 ⟨Nat.le_of_ble_eq_true rfl, Nat.le_of_ble_eq_true rfl⟩ (Nat.le_of_ble_eq_true rfl) dX0_common_71 ⟨Nat.zero_le _, Nat.zero_le _⟩ ?_
                refine lv_if_eq (pc := 74) (tgt := 81) hx hb dX0_common_74 (by decide) (fun c13 => ?_) (fun c13 => ?_)
                · have hd := if_t c13 hd
                  refine lv_iconst (v := (0 : Int32)) (pc := 81) hx hb dX0_common_81 (by decide) ?_
                  refine lv_istore (pc := 82) (lv' := [(5, .int (0 : Int32)), (0, .ref (ah a 0)), (1, .int a1), (2, .int x2), (3, .int x3), (4, .int x4), (6, .int x6)]) hx hb dX0_common_82 hl (by decide) rfl (fun ls hl => ?_)
                  obtain ⟨w14, ew14, hd⟩ := bs_let_spec hd
                  refine lv_iinc (pc := 84) (v := w14) (lv' := [(6, .int w14), (5, .int (0 : Int32)), (0, .ref (ah a 0)), (1, .int a1), (2, .int x2), (3, .int x3), (4, .int x4)]) hx hb dX0_common_84 hl (k := 6) rfl (by rw [ew14]; rfl) (by decide) rfl (fun ls hl => ?_)
                  refine lv_goto (pc := 87) (tgt := 39) hx hb dX0_common_87 (by decide) ?_
                  exact ih39 st x2 x3 x4 (0 : Int32) w14 _ _ _ hH (lv_sub hl [2, 3, 4, 5, 6, 1, 0] rfl) hd
                · have hd := if_n c13 hd
                  refine lv_iconst (v := (1 : Int32)) (pc := 77) hx hb dX0_common_77 (by decide) ?_
                  refine lv_goto (pc := 78) (tgt := 82) hx hb dX0_common_78 (by decide) ?_
                  refine lv_istore (pc := 82) (lv' := [(5, .int (1 : Int32)), (0, .ref (ah a 0)), (1, .int a1), (2, .int x2), (3, .int x3), (4, .int x4), (6, .int x6)]) hx hb dX0_common_82 hl (by decide) rfl (fun ls hl => ?_)
                  obtain ⟨w15, ew15, hd⟩ := bs_let_spec hd
                  refine lv_iinc (pc := 84) (v := w15) (lv' := [(6, .int w15), (5, .int (1 : Int32)), (0, .ref (ah a 0)), (1, .int a1), (2, .int x2), (3, .int x3), (4, .int x4)]) hx hb dX0_common_84 hl (k := 6) rfl (by rw [ew15]; rfl) (by decide) rfl (fun ls hl => ?_)
                  refine lv_goto (pc := 87) (tgt := 39) hx hb dX0_common_87 (by decide) ?_
                  exact ih39 st x2 x3 x4 (1 : Int32) w15 _ _ _ hH (lv_sub hl [2, 3, 4, 5, 6, 1, 0] rfl) hd
      intro st x2 x3 x4 H locs ls hH hl hd
      rw [X_common_L26] at hd
      refine lv_iload (pc := 26) hx hb dX0_common_26 (lv_at hl 4 rfl) ?_
      refine lv_bipush (v := (100 : Int32)) (pc := 28) hx hb dX0_common_28 (by decide) ?_
      refine lv_icmp_ge (pc := 30) (tgt := 125) hx hb dX0_common_30 (by decide) (fun c3 => ?_) (fun c3 => ?_)
      · have hd := if_t c3 hd
        exact h125 st x2 x3 _ _ _ hH (lv_sub hl [0, 1, 2, 3] rfl) hd
      · have hd := if_n c3 hd
        refine lv_iconst (v := (1 : Int32)) (pc := 33) hx hb dX0_common_33 (by decide) ?_
        refine lv_istore (pc := 34) (lv' := [(5, .int (1 : Int32)), (0, .ref (ah a 0)), (1, .int a1), (2, .int x2), (3, .int x3), (4, .int x4)]) hx hb dX0_common_34 hl (by decide) rfl (fun ls hl => ?_)
        refine lv_iconst (v := (0 : Int32)) (pc := 36) hx hb dX0_common_36 (by decide) ?_
        refine lv_istore (pc := 37) (lv' := [(6, .int (0 : Int32)), (5, .int (1 : Int32)), (0, .ref (ah a 0)), (1, .int a1), (2, .int x2), (3, .int x3), (4, .int x4)]) hx hb dX0_common_37 hl (by decide) rfl (fun ls hl => ?_)
        exact h39 bs_fu st x2 x3 x4 (1 : Int32) (0 : Int32) _ _ _ hH (lv_sub hl [2, 3, 4, 5, 6, 1, 0] rfl) hd
  unfold X_common at hd
  refine lv_iload_n (pc := 0) hx hb dX0_common_0 rfl (lv_at hl 1 rfl) ?_
  refine lv_iconst (v := (0 : Int32)) (pc := 1) hx hb dX0_common_1 (by decide) ?_
  refine lv_iconst (v := (1 : Int32)) (pc := 2) hx hb dX0_common_2 (by decide) ?_
  refine lv_aload_n (pc := 3) hx hb dX0_common_3 rfl (lv_at hl 0 rfl) ?_
  refine xg_ringMany (pc := 4) S hK hH dX0_common_4 ?_
  refine lv_ishl (pc := 7) hx hb dX0_common_7 ?_
  refine lv_iconst (v := (1 : Int32)) (pc := 8) hx hb dX0_common_8 (by decide) ?_
  refine lv_isub (pc := 9) hx hb dX0_common_9 ?_
  obtain ⟨v1, hv1, hd⟩ := bs_bd hd
  refine call_X_isIn (pc := 10) S hl q285 hv1 ⟨Nat.le_of_ble_eq_true rfl, Nat.le_of_ble_eq_true rfl⟩ (Nat.le_of_ble_eq_true rfl) dX0_common_10 ⟨Nat.zero_le _, Nat.zero_le _⟩ ?_
  refine lv_if_ne (pc := 13) (tgt := 18) hx hb dX0_common_13 (by decide) (fun c2 => ?_) (fun c2 => ?_)
  · have hd := if_n c2 hd
    refine lv_iconst (v := (0 : Int32)) (pc := 18) hx hb dX0_common_18 (by decide) ?_
    refine lv_istore_n (pc := 19) (lv' := [(2, .int (0 : Int32)), (0, .ref (ah a 0)), (1, .int a1)]) hx hb dX0_common_19 rfl hl (by decide) rfl (fun ls hl => ?_)
    refine lv_bipush (v := (-9 : Int32)) (pc := 20) hx hb dX0_common_20 (by decide) ?_
    refine lv_istore_n (pc := 22) (lv' := [(3, .int (-9 : Int32)), (2, .int (0 : Int32)), (0, .ref (ah a 0)), (1, .int a1)]) hx hb dX0_common_22 rfl hl (by decide) rfl (fun ls hl => ?_)
    refine lv_iconst (v := (0 : Int32)) (pc := 23) hx hb dX0_common_23 (by decide) ?_
    refine lv_istore (pc := 24) (lv' := [(4, .int (0 : Int32)), (3, .int (-9 : Int32)), (2, .int (0 : Int32)), (0, .ref (ah a 0)), (1, .int a1)]) hx hb dX0_common_24 hl (by decide) rfl (fun ls hl => ?_)
    exact h26 bs_fu st (0 : Int32) (-9 : Int32) (0 : Int32) _ _ _ hH (lv_sub hl [3, 4, 2, 1, 0] rfl) hd
  · have hd := if_t c2 hd
    refine lv_iconst (v := (-1 : Int32)) (pc := 16) hx hb dX0_common_16 (by decide) ?_
    exact g_iret (WX ct a ρ) hd S hr hlk hH dX0_common_17
section CR_X_common
variable {p : Program} {l : Launch} {e : Env} {R : Room} {s : State} {m : MethodId} {args : Array Value} {below : List Frame} {meth : Method} {c : Code} {H : Heap} {locs : List Loc} {cells slots : Nat} {Q : State → Prop}
variable {cc : ByteArray} {pc nL idx : Nat} {ls : Array Slot} {rest : List Value} {lv : List (Nat × Value)} {A : Nat → Prop} {H0 : Heap} {own : String}
theorem call_X_common {D : va_G} {ct : Nat → ClassId} {a : XA} {ρ : Option Nat} {st : XS} {a1 : Int32} {z : (XS × Int32)} (S : CallFix p m c cc nL s args lw_all own) (hl : lv_has ls nL lv) (hE : gEX s) (hK : va_K D clA (tysG ct) s) (hH : GH D A (xAs a) H0 (WX ct a ρ st) H locs) (hlk : Cond.methodLink own idx yX0_common ∈ lw_all) (hv : X_common st a1 = some z) (hR : 6 ≤ R.frames ∧ 169 ≤ R.locals) (hsum : (rest.map fun v => v.category).sum ≤ 8) (hdg : decode cc pc = .ok (.invokevirtual idx, 3)) (hf : cells ≤ R.cells ∧ slots ≤ R.slots)
    (k : ∀ (H1 : Heap) (locs1 : List Loc), GH D A (xAs a) H0 (WX ct a ρ z.1) H1 locs1 → W p l e R s m args below meth c H1 locs1 cells slots Q (F0 m (pc + 3) ls (.int z.2 :: rest))) : W p l e R s m args below meth c H locs cells slots Q (F0 m pc ls (.int a1 :: .ref (ah a 0) :: rest)) :=
  g_calli (av := [.int a1]) S hl gEX_ok hE hK hH (met_X_common l D ct a ρ H.size st a1 z hv) (lw_V hlk q732 q733 q69 q734) rfl rfl ⟨rfl, by decide, by decide, by show (parseMethodDescriptor yX0_common.desc).map (fun d => d.parameters.length) = some 1; decide +kernel⟩ hR (x_recv hK hH) (fun _ h => Or.inl h) rfl hsum hdg hf k
end CR_X_common
/-! CapCouncil.best (I)I -/
def X_best_J48 (k18 : XS → Int32 → Int32 → Int32 → Option (XS × Int32)) (a1 : Int32) (st : XS) (x3 : Int32) (x4 : Int32) (x5 : Int32) (y0 : Int32) : Option (XS × Int32) :=
  (J9_max x3 x5).bind fun v8 =>
  bs_let (x4 + (1 : Int32)) fun w9 =>
  k18 st y0 v8 w9
def X_best_L18 (k62 : XS → Int32 → Int32 → Option (XS × Int32)) (a1 : Int32) : Nat → XS → Int32 → Int32 → Int32 → Option (XS × Int32)
  | 0, _, _, _, _ => none
  | n + 1, st, x2, x3, x4 =>
    if (100 : Int32) ≤ x4 then
      (k62 st x2 x3)
    else
      ((X_ringsAt st x4).bind fun v4 =>
      (J11_bitCount v4).bind fun v5 =>
      if v5 ≤ x3 then
        (X_best_J48 (X_best_L18 k62 a1 n) a1 st x3 x4 v5 x2)
      else
        (X_best_J48 (X_best_L18 k62 a1 n) a1 st x3 x4 v5 x4))
def X_best_J62 (a1 : Int32) (st : XS) (x2 : Int32) (x3 : Int32) : Option (XS × Int32) :=
  (X_ask st x3 x2).bind fun q7 =>
  some (q7.1, q7.2)
def X_best (st : XS) (a1 : Int32) : Option (XS × Int32) :=
  (X_isBed st a1).bind fun v1 =>
  if v1 = 0 then
    (some (st, (-1 : Int32)))
  else
    (X_best_L18 (X_best_J62 a1) a1 bs_fu st (0 : Int32) (-9 : Int32) (0 : Int32))
def rm_X_best : Room := { frames := 6, cells := 0, slots := 0, locals := 166 }
set_option maxHeartbeats 4000000 in
set_option maxRecDepth 100000 in
theorem met_X_best (l : Launch) (D : va_G) (ct : Nat → ClassId) (a : XA) (ρ : Option Nat) (sz : Nat) (st : XS) (a1 : Int32) (z : (XS × Int32)) (hd : X_best st a1 = some z) : Met l yX0_best (ws_ yX0_best cX0_best 6 (some .int)) rm_X_best (GPre gEX D ct (xAs a) (WX ct a ρ st) sz [.ref (ah a 0), .int a1]) (GQi D (xAs a) (xAs a) (WX ct a ρ z.1) sz z.2) 0 0 (gA (xAs a) sz) := by
  refine g_met (cc := cX0_best) (maxL := 6) (ret := (some .int)) (by decide) (Nat.le_of_ble_eq_true rfl) ?_
  intro p e U m args below meth c ls S hr hlk hK hH hE hsz hl
  have S : CallFix p m c cX0_best 6 U args lw_all RX0 := S
  have hx := S.1
  have hb := S.2.1
  have hl : lv_has ls 6 [(0, .ref (ah a 0)), (1, .int a1)] := hl
  have h62 : ∀ (st : XS) (x2 : Int32) (x3 : Int32) (H : Heap) (locs : List Loc) (ls : Array Slot), GH D (gA (xAs a) sz) (xAs a) U.heap (WX ct a ρ st) H locs → lv_has ls 6 [(0, .ref (ah a 0)), (1, .int a1), (2, .int x2), (3, .int x3)] → X_best_J62 a1 st x2 x3 = some z → W p l e rm_X_best U m args below meth c H locs 0 0 (MQ below (GQi D (xAs a) (xAs a) (WX ct a ρ z.1) sz z.2) args U 0 0 (gA (xAs a) sz)) (F0 m 62 ls []) := by
    intro st x2 x3 H locs ls hH hl hd
    unfold X_best_J62 at hd
    refine lv_aload_n (pc := 62) hx hb dX0_best_62 rfl (lv_at hl 0 rfl) ?_
    refine lv_iload_n (pc := 63) hx hb dX0_best_63 rfl (lv_at hl 3 rfl) ?_
    refine lv_iload_n (pc := 64) hx hb dX0_best_64 rfl (lv_at hl 2 rfl) ?_
    obtain ⟨q7, hq7, hd⟩ := bs_bd hd
    refine call_X_ask (pc := 65) S hl hE hK hH q344 hq7 ⟨Nat.le_of_ble_eq_true rfl, Nat.le_of_ble_eq_true rfl⟩ (Nat.le_of_ble_eq_true rfl) dX0_best_65 ⟨Nat.zero_le _, Nat.zero_le _⟩ (fun H locs hH => ?_)
    exact g_iret (WX ct a ρ) hd S hr hlk hH dX0_best_68
  have h18 : ∀ (n18 : Nat) (st : XS) (x2 : Int32) (x3 : Int32) (x4 : Int32) (H : Heap) (locs : List Loc) (ls : Array Slot), GH D (gA (xAs a) sz) (xAs a) U.heap (WX ct a ρ st) H locs → lv_has ls 6 [(0, .ref (ah a 0)), (1, .int a1), (2, .int x2), (3, .int x3), (4, .int x4)] → X_best_L18 (X_best_J62 a1) a1 n18 st x2 x3 x4 = some z → W p l e rm_X_best U m args below meth c H locs 0 0 (MQ below (GQi D (xAs a) (xAs a) (WX ct a ρ z.1) sz z.2) args U 0 0 (gA (xAs a) sz)) (F0 m 18 ls []) := by
    intro n18
    induction n18 with
    | zero =>
      intro st x2 x3 x4 H locs ls hH hl hd
      rw [X_best_L18] at hd
      cases hd
    | succ n18 ih18 =>
      have h48 : ∀ (st : XS) (x3 : Int32) (x4 : Int32) (x5 : Int32) (y0 : Int32) (H : Heap) (locs : List Loc) (ls : Array Slot), GH D (gA (xAs a) sz) (xAs a) U.heap (WX ct a ρ st) H locs → lv_has ls 6 [(0, .ref (ah a 0)), (1, .int a1), (3, .int x3), (4, .int x4), (5, .int x5)] → X_best_J48 (X_best_L18 (X_best_J62 a1) a1 n18) a1 st x3 x4 x5 y0 = some z → W p l e rm_X_best U m args below meth c H locs 0 0 (MQ below (GQi D (xAs a) (xAs a) (WX ct a ρ z.1) sz z.2) args U 0 0 (gA (xAs a) sz)) (F0 m 48 ls [.int y0]) := by
        intro st x3 x4 x5 y0 H locs ls hH hl hd
        unfold X_best_J48 at hd
        refine lv_istore_n (pc := 48) (lv' := [(2, .int y0), (0, .ref (ah a 0)), (1, .int a1), (3, .int x3), (4, .int x4), (5, .int x5)]) hx hb dX0_best_48 rfl hl (by decide) rfl (fun ls hl => ?_)
        refine lv_iload_n (pc := 49) hx hb dX0_best_49 rfl (lv_at hl 3 rfl) ?_
        refine lv_iload (pc := 50) hx hb dX0_best_50 (lv_at hl 5 rfl) ?_
        obtain ⟨v8, hv8, hd⟩ := bs_bd hd
        refine call_J9_max (pc := 52) S hl q739 hv8 ⟨Nat.le_of_ble_eq_true rfl, Nat.le_of_ble_eq_true rfl⟩ (Nat.le_of_ble_eq_true rfl) dX0_best_52 ⟨Nat.zero_le _, Nat.zero_le _⟩ ?_
        refine lv_istore_n (pc := 55) (lv' := [(3, .int v8), (2, .int y0), (0, .ref (ah a 0)), (1, .int a1), (4, .int x4), (5, .int x5)]) hx hb dX0_best_55 rfl hl (by decide) rfl (fun ls hl => ?_)
        obtain ⟨w9, ew9, hd⟩ := bs_let_spec hd
        refine lv_iinc (pc := 56) (v := w9) (lv' := [(4, .int w9), (3, .int v8), (2, .int y0), (0, .ref (ah a 0)), (1, .int a1), (5, .int x5)]) hx hb dX0_best_56 hl (k := 4) rfl (by rw [ew9]; rfl) (by decide) rfl (fun ls hl => ?_)
        refine lv_goto (pc := 59) (tgt := 18) hx hb dX0_best_59 (by decide) ?_
        exact ih18 st y0 v8 w9 _ _ _ hH (lv_sub hl [3, 4, 2, 1, 0] rfl) hd
      intro st x2 x3 x4 H locs ls hH hl hd
      rw [X_best_L18] at hd
      refine lv_iload (pc := 18) hx hb dX0_best_18 (lv_at hl 4 rfl) ?_
      refine lv_bipush (v := (100 : Int32)) (pc := 20) hx hb dX0_best_20 (by decide) ?_
      refine lv_icmp_ge (pc := 22) (tgt := 62) hx hb dX0_best_22 (by decide) (fun c3 => ?_) (fun c3 => ?_)
      · have hd := if_t c3 hd
        exact h62 st x2 x3 _ _ _ hH (lv_sub hl [0, 1, 2, 3] rfl) hd
      · have hd := if_n c3 hd
        refine lv_aload_n (pc := 25) hx hb dX0_best_25 rfl (lv_at hl 0 rfl) ?_
        refine lv_iload (pc := 26) hx hb dX0_best_26 (lv_at hl 4 rfl) ?_
        obtain ⟨v4, hv4, hd⟩ := bs_bd hd
        refine call_X_ringsAt (pc := 28) S hl hE hK hH q577 hv4 ⟨Nat.le_of_ble_eq_true rfl, Nat.le_of_ble_eq_true rfl⟩ (Nat.le_of_ble_eq_true rfl) dX0_best_28 ⟨Nat.zero_le _, Nat.zero_le _⟩ ?_
        obtain ⟨v5, hv5, hd⟩ := bs_bd hd
        refine call_J11_bitCount (pc := 31) S hl q669 hv5 ⟨Nat.le_of_ble_eq_true rfl, Nat.le_of_ble_eq_true rfl⟩ (Nat.le_of_ble_eq_true rfl) dX0_best_31 ⟨Nat.zero_le _, Nat.zero_le _⟩ ?_
        refine lv_istore (pc := 34) (lv' := [(5, .int v5), (0, .ref (ah a 0)), (1, .int a1), (2, .int x2), (3, .int x3), (4, .int x4)]) hx hb dX0_best_34 hl (by decide) rfl (fun ls hl => ?_)
        refine lv_iload (pc := 36) hx hb dX0_best_36 (lv_at hl 0 rfl) ?_
        refine lv_iload_n (pc := 38) hx hb dX0_best_38 rfl (lv_at hl 4 rfl) ?_
        refine lv_icmp_le (pc := 39) (tgt := 47) hx hb dX0_best_39 (by decide) (fun c6 => ?_) (fun c6 => ?_)
        · have hd := if_t c6 hd
          refine lv_iload_n (pc := 47) hx hb dX0_best_47 rfl (lv_at hl 3 rfl) ?_
          exact h48 st x3 x4 v5 x2 _ _ _ hH (lv_sub hl [1, 2, 4, 5, 0] rfl) hd
        · have hd := if_n c6 hd
          refine lv_iload (pc := 42) hx hb dX0_best_42 (lv_at hl 5 rfl) ?_
          refine lv_goto (pc := 44) (tgt := 48) hx hb dX0_best_44 (by decide) ?_
          exact h48 st x3 x4 v5 x4 _ _ _ hH (lv_sub hl [1, 2, 4, 5, 0] rfl) hd
  unfold X_best at hd
  refine lv_aload_n (pc := 0) hx hb dX0_best_0 rfl (lv_at hl 0 rfl) ?_
  refine lv_iload_n (pc := 1) hx hb dX0_best_1 rfl (lv_at hl 1 rfl) ?_
  obtain ⟨v1, hv1, hd⟩ := bs_bd hd
  refine call_X_isBed (pc := 2) S hl hE hK hH q569 hv1 ⟨Nat.le_of_ble_eq_true rfl, Nat.le_of_ble_eq_true rfl⟩ (Nat.le_of_ble_eq_true rfl) dX0_best_2 ⟨Nat.zero_le _, Nat.zero_le _⟩ ?_
  refine lv_if_ne (pc := 5) (tgt := 10) hx hb dX0_best_5 (by decide) (fun c2 => ?_) (fun c2 => ?_)
  · have hd := if_n c2 hd
    refine lv_iconst (v := (0 : Int32)) (pc := 10) hx hb dX0_best_10 (by decide) ?_
    refine lv_istore_n (pc := 11) (lv' := [(2, .int (0 : Int32)), (0, .ref (ah a 0)), (1, .int a1)]) hx hb dX0_best_11 rfl hl (by decide) rfl (fun ls hl => ?_)
    refine lv_bipush (v := (-9 : Int32)) (pc := 12) hx hb dX0_best_12 (by decide) ?_
    refine lv_istore_n (pc := 14) (lv' := [(3, .int (-9 : Int32)), (2, .int (0 : Int32)), (0, .ref (ah a 0)), (1, .int a1)]) hx hb dX0_best_14 rfl hl (by decide) rfl (fun ls hl => ?_)
    refine lv_iconst (v := (0 : Int32)) (pc := 15) hx hb dX0_best_15 (by decide) ?_
    refine lv_istore (pc := 16) (lv' := [(4, .int (0 : Int32)), (3, .int (-9 : Int32)), (2, .int (0 : Int32)), (0, .ref (ah a 0)), (1, .int a1)]) hx hb dX0_best_16 hl (by decide) rfl (fun ls hl => ?_)
    exact h18 bs_fu st (0 : Int32) (-9 : Int32) (0 : Int32) _ _ _ hH (lv_sub hl [3, 4, 2, 1, 0] rfl) hd
  · have hd := if_t c2 hd
    refine lv_iconst (v := (-1 : Int32)) (pc := 8) hx hb dX0_best_8 (by decide) ?_
    exact g_iret (WX ct a ρ) hd S hr hlk hH dX0_best_9
section CR_X_best
variable {p : Program} {l : Launch} {e : Env} {R : Room} {s : State} {m : MethodId} {args : Array Value} {below : List Frame} {meth : Method} {c : Code} {H : Heap} {locs : List Loc} {cells slots : Nat} {Q : State → Prop}
variable {cc : ByteArray} {pc nL idx : Nat} {ls : Array Slot} {rest : List Value} {lv : List (Nat × Value)} {A : Nat → Prop} {H0 : Heap} {own : String}
theorem call_X_best {D : va_G} {ct : Nat → ClassId} {a : XA} {ρ : Option Nat} {st : XS} {a1 : Int32} {z : (XS × Int32)} (S : CallFix p m c cc nL s args lw_all own) (hl : lv_has ls nL lv) (hE : gEX s) (hK : va_K D clA (tysG ct) s) (hH : GH D A (xAs a) H0 (WX ct a ρ st) H locs) (hlk : Cond.methodLink own idx yX0_best ∈ lw_all) (hv : X_best st a1 = some z) (hR : 7 ≤ R.frames ∧ 191 ≤ R.locals) (hsum : (rest.map fun v => v.category).sum ≤ 8) (hdg : decode cc pc = .ok (.invokevirtual idx, 3)) (hf : cells ≤ R.cells ∧ slots ≤ R.slots)
    (k : ∀ (H1 : Heap) (locs1 : List Loc), GH D A (xAs a) H0 (WX ct a ρ z.1) H1 locs1 → W p l e R s m args below meth c H1 locs1 cells slots Q (F0 m (pc + 3) ls (.int z.2 :: rest))) : W p l e R s m args below meth c H locs cells slots Q (F0 m pc ls (.int a1 :: .ref (ah a 0) :: rest)) :=
  g_calli (av := [.int a1]) S hl gEX_ok hE hK hH (met_X_best l D ct a ρ H.size st a1 z hv) (lw_V hlk q736 q737 q69 q738) rfl rfl ⟨rfl, by decide, by decide, by show (parseMethodDescriptor yX0_best.desc).map (fun d => d.parameters.length) = some 1; decide +kernel⟩ hR (x_recv hK hH) (fun _ h => Or.inl h) rfl hsum hdg hf k
end CR_X_best
/-! CapCouncil.when (I)I -/
def X_when_L17 (k52 : XS → Int32 → Int32 → Option (XS × Int32)) (a1 : Int32) : Nat → XS → Int32 → Int32 → Option (XS × Int32)
  | 0, _, _, _ => none
  | n + 1, st, x2, x3 =>
    if (40 : Int32) ≤ x3 then
      (k52 st x2 x3)
    else
      ((bs_ld (xa st 5) 6 a1).bind fun v5 =>
      (X_ringsAt st v5).bind fun v6 =>
      if v6 = 0 then
        (bs_let (x3 + (1 : Int32)) fun w8 =>
        bs_let ((xi st 7) + (1 : Int32)) fun w9 =>
        bs_let (sxi st 7 w9) fun s10 =>
        X_when_L17 k52 a1 n s10 x2 w8)
      else
        (k52 st x2 x3))
def X_when_J52 (a1 : Int32) (st : XS) (x2 : Int32) (x3 : Int32) : Option (XS × Int32) :=
  (bs_ld (xa st 5) 6 a1).bind fun v11 =>
  (X_ringsAt st v11).bind fun v12 =>
  bs_let (sxi st 7 x2) fun s13 =>
  if v12 = 0 then
    (some (s13, (-9 : Int32)))
  else
    ((X_ask s13 v12 x3).bind fun q15 =>
    some (q15.1, q15.2))
def X_when (st : XS) (a1 : Int32) : Option (XS × Int32) :=
  (X_isBed st a1).bind fun v1 =>
  if v1 = 0 then
    (some (st, (-1 : Int32)))
  else
    (bs_let (xi st 7) fun w3 =>
    X_when_L17 (X_when_J52 a1) a1 bs_fu st w3 (0 : Int32))
def rm_X_when : Room := { frames := 6, cells := 0, slots := 0, locals := 166 }
set_option maxHeartbeats 4000000 in
set_option maxRecDepth 100000 in
theorem met_X_when (l : Launch) (D : va_G) (ct : Nat → ClassId) (a : XA) (ρ : Option Nat) (sz : Nat) (st : XS) (a1 : Int32) (z : (XS × Int32)) (hd : X_when st a1 = some z) : Met l yX0_when (ws_ yX0_when cX0_when 5 (some .int)) rm_X_when (GPre gEX D ct (xAs a) (WX ct a ρ st) sz [.ref (ah a 0), .int a1]) (GQi D (xAs a) (xAs a) (WX ct a ρ z.1) sz z.2) 0 0 (gA (xAs a) sz) := by
  refine g_met (cc := cX0_when) (maxL := 5) (ret := (some .int)) (by decide) (Nat.le_of_ble_eq_true rfl) ?_
  intro p e U m args below meth c ls S hr hlk hK hH hE hsz hl
  have S : CallFix p m c cX0_when 5 U args lw_all RX0 := S
  have hx := S.1
  have hb := S.2.1
  have hl : lv_has ls 5 [(0, .ref (ah a 0)), (1, .int a1)] := hl
  have h52 : ∀ (st : XS) (x2 : Int32) (x3 : Int32) (H : Heap) (locs : List Loc) (ls : Array Slot), GH D (gA (xAs a) sz) (xAs a) U.heap (WX ct a ρ st) H locs → lv_has ls 5 [(0, .ref (ah a 0)), (1, .int a1), (2, .int x2), (3, .int x3)] → X_when_J52 a1 st x2 x3 = some z → W p l e rm_X_when U m args below meth c H locs 0 0 (MQ below (GQi D (xAs a) (xAs a) (WX ct a ρ z.1) sz z.2) args U 0 0 (gA (xAs a) sz)) (F0 m 52 ls []) := by
    intro st x2 x3 H locs ls hH hl hd
    unfold X_when_J52 at hd
    refine lv_aload_n (pc := 52) hx hb dX0_when_52 rfl (lv_at hl 0 rfl) ?_
    refine lv_aload_n (pc := 53) hx hb dX0_when_53 rfl (lv_at hl 0 rfl) ?_
    refine xg_places (pc := 54) S hK hH dX0_when_54 ?_
    refine lv_iload_n (pc := 57) hx hb dX0_when_57 rfl (lv_at hl 1 rfl) ?_
    obtain ⟨v11, hv11, hd⟩ := bs_bd hd
    refine xl_places (pc := 58) S hK hH hv11 dX0_when_58 ?_
    obtain ⟨v12, hv12, hd⟩ := bs_bd hd
    refine call_X_ringsAt (pc := 59) S hl hE hK hH q577 hv12 ⟨Nat.le_of_ble_eq_true rfl, Nat.le_of_ble_eq_true rfl⟩ (Nat.le_of_ble_eq_true rfl) dX0_when_59 ⟨Nat.zero_le _, Nat.zero_le _⟩ ?_
    refine lv_istore (pc := 62) (lv' := [(4, .int v12), (0, .ref (ah a 0)), (1, .int a1), (2, .int x2), (3, .int x3)]) hx hb dX0_when_62 hl (by decide) rfl (fun ls hl => ?_)
    refine lv_aload_n (pc := 64) hx hb dX0_when_64 rfl (lv_at hl 1 rfl) ?_
    refine lv_iload_n (pc := 65) hx hb dX0_when_65 rfl (lv_at hl 3 rfl) ?_
    obtain ⟨s13, es13, hd⟩ := bs_let_spec hd
    refine xp_yearNow (pc := 66) S hK hH dX0_when_66 es13 (fun H locs hH => ?_)
    refine lv_iload (pc := 69) hx hb dX0_when_69 (lv_at hl 0 rfl) ?_
    refine lv_if_ne (pc := 71) (tgt := 79) hx hb dX0_when_71 (by decide) (fun c14 => ?_) (fun c14 => ?_)
    · have hd := if_n c14 hd
      refine lv_aload_n (pc := 79) hx hb dX0_when_79 rfl (lv_at hl 1 rfl) ?_
      refine lv_iload (pc := 80) hx hb dX0_when_80 (lv_at hl 0 rfl) ?_
      refine lv_iload_n (pc := 82) hx hb dX0_when_82 rfl (lv_at hl 4 rfl) ?_
      obtain ⟨q15, hq15, hd⟩ := bs_bd hd
      refine call_X_ask (pc := 83) S hl hE hK hH q344 hq15 ⟨Nat.le_of_ble_eq_true rfl, Nat.le_of_ble_eq_true rfl⟩ (Nat.le_of_ble_eq_true rfl) dX0_when_83 ⟨Nat.zero_le _, Nat.zero_le _⟩ (fun H locs hH => ?_)
      exact g_iret (WX ct a ρ) hd S hr hlk hH dX0_when_86
    · have hd := if_t c14 hd
      refine lv_bipush (v := (-9 : Int32)) (pc := 74) hx hb dX0_when_74 (by decide) ?_
      refine lv_goto (pc := 76) (tgt := 86) hx hb dX0_when_76 (by decide) ?_
      exact g_iret (WX ct a ρ) hd S hr hlk hH dX0_when_86
  have h17 : ∀ (n17 : Nat) (st : XS) (x2 : Int32) (x3 : Int32) (H : Heap) (locs : List Loc) (ls : Array Slot), GH D (gA (xAs a) sz) (xAs a) U.heap (WX ct a ρ st) H locs → lv_has ls 5 [(0, .ref (ah a 0)), (1, .int a1), (2, .int x2), (3, .int x3)] → X_when_L17 (X_when_J52 a1) a1 n17 st x2 x3 = some z → W p l e rm_X_when U m args below meth c H locs 0 0 (MQ below (GQi D (xAs a) (xAs a) (WX ct a ρ z.1) sz z.2) args U 0 0 (gA (xAs a) sz)) (F0 m 17 ls []) := by
    intro n17
    induction n17 with
    | zero =>
      intro st x2 x3 H locs ls hH hl hd
      rw [X_when_L17] at hd
      cases hd
    | succ n17 ih17 =>
      intro st x2 x3 H locs ls hH hl hd
      rw [X_when_L17] at hd
      refine lv_iload_n (pc := 17) hx hb dX0_when_17 rfl (lv_at hl 3 rfl) ?_
      refine lv_bipush (v := (40 : Int32)) (pc := 18) hx hb dX0_when_18 (by decide) ?_
      refine lv_icmp_ge (pc := 20) (tgt := 52) hx hb dX0_when_20 (by decide) (fun c4 => ?_) (fun c4 => ?_)
      · have hd := if_t c4 hd
        exact h52 st x2 x3 _ _ _ hH (lv_sub hl [0, 1, 2, 3] rfl) hd
      · have hd := if_n c4 hd
        refine lv_aload_n (pc := 23) hx hb dX0_when_23 rfl (lv_at hl 0 rfl) ?_
        refine lv_aload_n (pc := 24) hx hb dX0_when_24 rfl (lv_at hl 0 rfl) ?_
        refine xg_places (pc := 25) S hK hH dX0_when_25 ?_
        refine lv_iload_n (pc := 28) hx hb dX0_when_28 rfl (lv_at hl 1 rfl) ?_
        obtain ⟨v5, hv5, hd⟩ := bs_bd hd
        refine xl_places (pc := 29) S hK hH hv5 dX0_when_29 ?_
        obtain ⟨v6, hv6, hd⟩ := bs_bd hd
        refine call_X_ringsAt (pc := 30) S hl hE hK hH q577 hv6 ⟨Nat.le_of_ble_eq_true rfl, Nat.le_of_ble_eq_true rfl⟩ (Nat.le_of_ble_eq_true rfl) dX0_when_30 ⟨Nat.zero_le _, Nat.zero_le _⟩ ?_
        refine lv_if_ne (pc := 33) (tgt := 52) hx hb dX0_when_33 (by decide) (fun c7 => ?_) (fun c7 => ?_)
        · have hd := if_n c7 hd
          exact h52 st x2 x3 _ _ _ hH (lv_sub hl [0, 1, 2, 3] rfl) hd
        · have hd := if_t c7 hd
          obtain ⟨w8, ew8, hd⟩ := bs_let_spec hd
          refine lv_iinc (pc := 36) (v := w8) (lv' := [(3, .int w8), (0, .ref (ah a 0)), (1, .int a1), (2, .int x2)]) hx hb dX0_when_36 hl (k := 3) rfl (by rw [ew8]; rfl) (by decide) rfl (fun ls hl => ?_)
          refine lv_aload_n (pc := 39) hx hb dX0_when_39 rfl (lv_at hl 1 rfl) ?_
          refine lv_dup (pc := 40) hx hb dX0_when_40 rfl ?_
          refine xg_yearNow (pc := 41) S hK hH dX0_when_41 ?_
          refine lv_iconst (v := (1 : Int32)) (pc := 44) hx hb dX0_when_44 (by decide) ?_
          refine lv_iadd (pc := 45) hx hb dX0_when_45 ?_
          obtain ⟨w9, ew9, hd⟩ := bs_let_spec hd
          refine lv_topE (pc := 46) ew9 ?_
          obtain ⟨s10, es10, hd⟩ := bs_let_spec hd
          refine xp_yearNow (pc := 46) S hK hH dX0_when_46 es10 (fun H locs hH => ?_)
          refine lv_goto (pc := 49) (tgt := 17) hx hb dX0_when_49 (by decide) ?_
          exact ih17 s10 x2 w8 _ _ _ hH (lv_sub hl [1, 2, 3, 0] rfl) hd
  unfold X_when at hd
  refine lv_aload_n (pc := 0) hx hb dX0_when_0 rfl (lv_at hl 0 rfl) ?_
  refine lv_iload_n (pc := 1) hx hb dX0_when_1 rfl (lv_at hl 1 rfl) ?_
  obtain ⟨v1, hv1, hd⟩ := bs_bd hd
  refine call_X_isBed (pc := 2) S hl hE hK hH q569 hv1 ⟨Nat.le_of_ble_eq_true rfl, Nat.le_of_ble_eq_true rfl⟩ (Nat.le_of_ble_eq_true rfl) dX0_when_2 ⟨Nat.zero_le _, Nat.zero_le _⟩ ?_
  refine lv_if_ne (pc := 5) (tgt := 10) hx hb dX0_when_5 (by decide) (fun c2 => ?_) (fun c2 => ?_)
  · have hd := if_n c2 hd
    refine lv_aload_n (pc := 10) hx hb dX0_when_10 rfl (lv_at hl 0 rfl) ?_
    refine xg_yearNow (pc := 11) S hK hH dX0_when_11 ?_
    obtain ⟨w3, ew3, hd⟩ := bs_let_spec hd
    refine lv_topE (pc := 14) ew3 ?_
    refine lv_istore_n (pc := 14) (lv' := [(2, .int w3), (0, .ref (ah a 0)), (1, .int a1)]) hx hb dX0_when_14 rfl hl (by decide) rfl (fun ls hl => ?_)
    refine lv_iconst (v := (0 : Int32)) (pc := 15) hx hb dX0_when_15 (by decide) ?_
    refine lv_istore_n (pc := 16) (lv' := [(3, .int (0 : Int32)), (2, .int w3), (0, .ref (ah a 0)), (1, .int a1)]) hx hb dX0_when_16 rfl hl (by decide) rfl (fun ls hl => ?_)
    exact h17 bs_fu st w3 (0 : Int32) _ _ _ hH (lv_sub hl [2, 3, 1, 0] rfl) hd
  · have hd := if_t c2 hd
    refine lv_iconst (v := (-1 : Int32)) (pc := 8) hx hb dX0_when_8 (by decide) ?_
    exact g_iret (WX ct a ρ) hd S hr hlk hH dX0_when_9
section CR_X_when
variable {p : Program} {l : Launch} {e : Env} {R : Room} {s : State} {m : MethodId} {args : Array Value} {below : List Frame} {meth : Method} {c : Code} {H : Heap} {locs : List Loc} {cells slots : Nat} {Q : State → Prop}
variable {cc : ByteArray} {pc nL idx : Nat} {ls : Array Slot} {rest : List Value} {lv : List (Nat × Value)} {A : Nat → Prop} {H0 : Heap} {own : String}
theorem call_X_when {D : va_G} {ct : Nat → ClassId} {a : XA} {ρ : Option Nat} {st : XS} {a1 : Int32} {z : (XS × Int32)} (S : CallFix p m c cc nL s args lw_all own) (hl : lv_has ls nL lv) (hE : gEX s) (hK : va_K D clA (tysG ct) s) (hH : GH D A (xAs a) H0 (WX ct a ρ st) H locs) (hlk : Cond.methodLink own idx yX0_when ∈ lw_all) (hv : X_when st a1 = some z) (hR : 7 ≤ R.frames ∧ 190 ≤ R.locals) (hsum : (rest.map fun v => v.category).sum ≤ 8) (hdg : decode cc pc = .ok (.invokevirtual idx, 3)) (hf : cells ≤ R.cells ∧ slots ≤ R.slots)
    (k : ∀ (H1 : Heap) (locs1 : List Loc), GH D A (xAs a) H0 (WX ct a ρ z.1) H1 locs1 → W p l e R s m args below meth c H1 locs1 cells slots Q (F0 m (pc + 3) ls (.int z.2 :: rest))) : W p l e R s m args below meth c H locs cells slots Q (F0 m pc ls (.int a1 :: .ref (ah a 0) :: rest)) :=
  g_calli (av := [.int a1]) S hl gEX_ok hE hK hH (met_X_when l D ct a ρ H.size st a1 z hv) (lw_V hlk q743 q744 q69 q745) rfl rfl ⟨rfl, by decide, by decide, by show (parseMethodDescriptor yX0_when.desc).map (fun d => d.parameters.length) = some 1; decide +kernel⟩ hR (x_recv hK hH) (fun _ h => Or.inl h) rfl hsum hdg hf k
end CR_X_when
/-! CapCouncil.years (II)I -/
def X_years_J67 (k34 : XS → Int32 → Int32 → Int32 → Int32 → Option (XS × Int32)) (a1 : Int32) (a2 : Int32) (st : XS) (x3 : Int32) (x5 : Int32) (x6 : Int32) (x7 : Int32) (y0 : Int32) (y1 : Int32) : Option (XS × Int32) :=
  bs_let (y1 + y0) fun w13 =>
  (J9_max x5 x7).bind fun v14 =>
  bs_let ((xi st 7) + (1 : Int32)) fun w15 =>
  bs_let (sxi st 7 w15) fun s16 =>
  bs_let (x6 + (1 : Int32)) fun w17 =>
  k34 s16 x3 w13 v14 w17
def X_years_L34 (k95 : XS → Int32 → Int32 → Int32 → Option (XS × Int32)) (a1 : Int32) (a2 : Int32) : Nat → XS → Int32 → Int32 → Int32 → Int32 → Option (XS × Int32)
  | 0, _, _, _, _, _ => none
  | n + 1, st, x3, x4, x5, x6 =>
    if a2 ≤ x6 then
      (k95 st x3 x4 x5)
    else
      ((bs_ld (xa st 5) 6 a1).bind fun v7 =>
      (X_ringsAt st v7).bind fun v8 =>
      (J11_bitCount v8).bind fun v9 =>
      if v9 ≤ 0 then
        (X_years_J67 (X_years_L34 k95 a1 a2 n) a1 a2 st x3 x5 x6 v9 (0 : Int32) x4)
      else
        (X_years_J67 (X_years_L34 k95 a1 a2 n) a1 a2 st x3 x5 x6 v9 (1 : Int32) x4))
def X_years_J95 (a1 : Int32) (a2 : Int32) (st : XS) (x3 : Int32) (x4 : Int32) (x5 : Int32) : Option (XS × Int32) :=
  bs_let (sxi st 7 x3) fun s11 =>
  (X_ask s11 x5 x4).bind fun q12 =>
  some (q12.1, q12.2)
def X_years (st : XS) (a1 : Int32) (a2 : Int32) : Option (XS × Int32) :=
  (X_isBed st a1).bind fun v1 =>
  if v1 = 0 then
    (some (st, (-1 : Int32)))
  else
    ((X_isIn a2 (0 : Int32) (40 : Int32)).bind fun v3 =>
    if v3 = 0 then
      (some (st, (-1 : Int32)))
    else
      (bs_let (xi st 7) fun w5 =>
      X_years_L34 (X_years_J95 a1 a2) a1 a2 bs_fu st w5 (0 : Int32) (0 : Int32) (0 : Int32)))
def rm_X_years : Room := { frames := 6, cells := 0, slots := 0, locals := 166 }
set_option maxHeartbeats 4000000 in
set_option maxRecDepth 100000 in
theorem met_X_years (l : Launch) (D : va_G) (ct : Nat → ClassId) (a : XA) (ρ : Option Nat) (sz : Nat) (st : XS) (a1 : Int32) (a2 : Int32) (z : (XS × Int32)) (hd : X_years st a1 a2 = some z) : Met l yX0_years (ws_ yX0_years cX0_years 8 (some .int)) rm_X_years (GPre gEX D ct (xAs a) (WX ct a ρ st) sz [.ref (ah a 0), .int a1, .int a2]) (GQi D (xAs a) (xAs a) (WX ct a ρ z.1) sz z.2) 0 0 (gA (xAs a) sz) := by
  refine g_met (cc := cX0_years) (maxL := 8) (ret := (some .int)) (by decide) (Nat.le_of_ble_eq_true rfl) ?_
  intro p e U m args below meth c ls S hr hlk hK hH hE hsz hl
  have S : CallFix p m c cX0_years 8 U args lw_all RX0 := S
  have hx := S.1
  have hb := S.2.1
  have hl : lv_has ls 8 [(0, .ref (ah a 0)), (1, .int a1), (2, .int a2)] := hl
  have h95 : ∀ (st : XS) (x3 : Int32) (x4 : Int32) (x5 : Int32) (H : Heap) (locs : List Loc) (ls : Array Slot), GH D (gA (xAs a) sz) (xAs a) U.heap (WX ct a ρ st) H locs → lv_has ls 8 [(0, .ref (ah a 0)), (1, .int a1), (2, .int a2), (3, .int x3), (4, .int x4), (5, .int x5)] → X_years_J95 a1 a2 st x3 x4 x5 = some z → W p l e rm_X_years U m args below meth c H locs 0 0 (MQ below (GQi D (xAs a) (xAs a) (WX ct a ρ z.1) sz z.2) args U 0 0 (gA (xAs a) sz)) (F0 m 95 ls []) := by
    intro st x3 x4 x5 H locs ls hH hl hd
    unfold X_years_J95 at hd
    refine lv_aload_n (pc := 95) hx hb dX0_years_95 rfl (lv_at hl 0 rfl) ?_
    refine lv_iload_n (pc := 96) hx hb dX0_years_96 rfl (lv_at hl 3 rfl) ?_
    obtain ⟨s11, es11, hd⟩ := bs_let_spec hd
    refine xp_yearNow (pc := 97) S hK hH dX0_years_97 es11 (fun H locs hH => ?_)
    refine lv_aload_n (pc := 100) hx hb dX0_years_100 rfl (lv_at hl 0 rfl) ?_
    refine lv_iload (pc := 101) hx hb dX0_years_101 (lv_at hl 5 rfl) ?_
    refine lv_iload (pc := 103) hx hb dX0_years_103 (lv_at hl 4 rfl) ?_
    obtain ⟨q12, hq12, hd⟩ := bs_bd hd
    refine call_X_ask (pc := 105) S hl hE hK hH q344 hq12 ⟨Nat.le_of_ble_eq_true rfl, Nat.le_of_ble_eq_true rfl⟩ (Nat.le_of_ble_eq_true rfl) dX0_years_105 ⟨Nat.zero_le _, Nat.zero_le _⟩ (fun H locs hH => ?_)
    exact g_iret (WX ct a ρ) hd S hr hlk hH dX0_years_108
  have h34 : ∀ (n34 : Nat) (st : XS) (x3 : Int32) (x4 : Int32) (x5 : Int32) (x6 : Int32) (H : Heap) (locs : List Loc) (ls : Array Slot), GH D (gA (xAs a) sz) (xAs a) U.heap (WX ct a ρ st) H locs → lv_has ls 8 [(0, .ref (ah a 0)), (1, .int a1), (2, .int a2), (3, .int x3), (4, .int x4), (5, .int x5), (6, .int x6)] → X_years_L34 (X_years_J95 a1 a2) a1 a2 n34 st x3 x4 x5 x6 = some z → W p l e rm_X_years U m args below meth c H locs 0 0 (MQ below (GQi D (xAs a) (xAs a) (WX ct a ρ z.1) sz z.2) args U 0 0 (gA (xAs a) sz)) (F0 m 34 ls []) := by
    intro n34
    induction n34 with
    | zero =>
      intro st x3 x4 x5 x6 H locs ls hH hl hd
      rw [X_years_L34] at hd
      cases hd
    | succ n34 ih34 =>
      have h67 : ∀ (st : XS) (x3 : Int32) (x5 : Int32) (x6 : Int32) (x7 : Int32) (y0 : Int32) (y1 : Int32) (H : Heap) (locs : List Loc) (ls : Array Slot), GH D (gA (xAs a) sz) (xAs a) U.heap (WX ct a ρ st) H locs → lv_has ls 8 [(0, .ref (ah a 0)), (1, .int a1), (2, .int a2), (3, .int x3), (5, .int x5), (6, .int x6), (7, .int x7)] → X_years_J67 (X_years_L34 (X_years_J95 a1 a2) a1 a2 n34) a1 a2 st x3 x5 x6 x7 y0 y1 = some z → W p l e rm_X_years U m args below meth c H locs 0 0 (MQ below (GQi D (xAs a) (xAs a) (WX ct a ρ z.1) sz z.2) args U 0 0 (gA (xAs a) sz)) (F0 m 67 ls [.int y0, .int y1]) := by
        intro st x3 x5 x6 x7 y0 y1 H locs ls hH hl hd
        unfold X_years_J67 at hd
        refine lv_iadd (pc := 67) hx hb dX0_years_67 ?_
        obtain ⟨w13, ew13, hd⟩ := bs_let_spec hd
        refine lv_topE (pc := 68) ew13 ?_
        refine lv_istore (pc := 68) (lv' := [(4, .int w13), (0, .ref (ah a 0)), (1, .int a1), (2, .int a2), (3, .int x3), (5, .int x5), (6, .int x6), (7, .int x7)]) hx hb dX0_years_68 hl (by decide) rfl (fun ls hl => ?_)
        refine lv_iload (pc := 70) hx hb dX0_years_70 (lv_at hl 5 rfl) ?_
        refine lv_iload (pc := 72) hx hb dX0_years_72 (lv_at hl 7 rfl) ?_
        obtain ⟨v14, hv14, hd⟩ := bs_bd hd
        refine call_J9_max (pc := 74) S hl q739 hv14 ⟨Nat.le_of_ble_eq_true rfl, Nat.le_of_ble_eq_true rfl⟩ (Nat.le_of_ble_eq_true rfl) dX0_years_74 ⟨Nat.zero_le _, Nat.zero_le _⟩ ?_
        refine lv_istore (pc := 77) (lv' := [(5, .int v14), (4, .int w13), (0, .ref (ah a 0)), (1, .int a1), (2, .int a2), (3, .int x3), (6, .int x6), (7, .int x7)]) hx hb dX0_years_77 hl (by decide) rfl (fun ls hl => ?_)
        refine lv_aload_n (pc := 79) hx hb dX0_years_79 rfl (lv_at hl 2 rfl) ?_
        refine lv_dup (pc := 80) hx hb dX0_years_80 rfl ?_
        refine xg_yearNow (pc := 81) S hK hH dX0_years_81 ?_
        refine lv_iconst (v := (1 : Int32)) (pc := 84) hx hb dX0_years_84 (by decide) ?_
        refine lv_iadd (pc := 85) hx hb dX0_years_85 ?_
        obtain ⟨w15, ew15, hd⟩ := bs_let_spec hd
        refine lv_topE (pc := 86) ew15 ?_
        obtain ⟨s16, es16, hd⟩ := bs_let_spec hd
        refine xp_yearNow (pc := 86) S hK hH dX0_years_86 es16 (fun H locs hH => ?_)
        obtain ⟨w17, ew17, hd⟩ := bs_let_spec hd
        refine lv_iinc (pc := 89) (v := w17) (lv' := [(6, .int w17), (5, .int v14), (4, .int w13), (0, .ref (ah a 0)), (1, .int a1), (2, .int a2), (3, .int x3), (7, .int x7)]) hx hb dX0_years_89 hl (k := 6) rfl (by rw [ew17]; rfl) (by decide) rfl (fun ls hl => ?_)
        refine lv_goto (pc := 92) (tgt := 34) hx hb dX0_years_92 (by decide) ?_
        exact ih34 s16 x3 w13 v14 w17 _ _ _ hH (lv_sub hl [3, 4, 5, 6, 2, 1, 0] rfl) hd
      intro st x3 x4 x5 x6 H locs ls hH hl hd
      rw [X_years_L34] at hd
      refine lv_iload (pc := 34) hx hb dX0_years_34 (lv_at hl 6 rfl) ?_
      refine lv_iload_n (pc := 36) hx hb dX0_years_36 rfl (lv_at hl 2 rfl) ?_
      refine lv_icmp_ge (pc := 37) (tgt := 95) hx hb dX0_years_37 (by decide) (fun c6 => ?_) (fun c6 => ?_)
      · have hd := if_t c6 hd
        exact h95 st x3 x4 x5 _ _ _ hH (lv_sub hl [0, 1, 2, 3, 4, 5] rfl) hd
      · have hd := if_n c6 hd
        refine lv_aload_n (pc := 40) hx hb dX0_years_40 rfl (lv_at hl 0 rfl) ?_
        refine lv_aload_n (pc := 41) hx hb dX0_years_41 rfl (lv_at hl 0 rfl) ?_
        refine xg_places (pc := 42) S hK hH dX0_years_42 ?_
        refine lv_iload_n (pc := 45) hx hb dX0_years_45 rfl (lv_at hl 1 rfl) ?_
        obtain ⟨v7, hv7, hd⟩ := bs_bd hd
        refine xl_places (pc := 46) S hK hH hv7 dX0_years_46 ?_
        obtain ⟨v8, hv8, hd⟩ := bs_bd hd
        refine call_X_ringsAt (pc := 47) S hl hE hK hH q577 hv8 ⟨Nat.le_of_ble_eq_true rfl, Nat.le_of_ble_eq_true rfl⟩ (Nat.le_of_ble_eq_true rfl) dX0_years_47 ⟨Nat.zero_le _, Nat.zero_le _⟩ ?_
        obtain ⟨v9, hv9, hd⟩ := bs_bd hd
        refine call_J11_bitCount (pc := 50) S hl q669 hv9 ⟨Nat.le_of_ble_eq_true rfl, Nat.le_of_ble_eq_true rfl⟩ (Nat.le_of_ble_eq_true rfl) dX0_years_50 ⟨Nat.zero_le _, Nat.zero_le _⟩ ?_
        refine lv_istore (pc := 53) (lv' := [(7, .int v9), (0, .ref (ah a 0)), (1, .int a1), (2, .int a2), (3, .int x3), (4, .int x4), (5, .int x5), (6, .int x6)]) hx hb dX0_years_53 hl (by decide) rfl (fun ls hl => ?_)
        refine lv_iload (pc := 55) hx hb dX0_years_55 (lv_at hl 5 rfl) ?_
        refine lv_iload (pc := 57) hx hb dX0_years_57 (lv_at hl 0 rfl) ?_
        refine lv_if_le (pc := 59) (tgt := 66) hx hb dX0_years_59 (by decide) (fun c10 => ?_) (fun c10 => ?_)
        · have hd := if_t c10 hd
          refine lv_iconst (v := (0 : Int32)) (pc := 66) hx hb dX0_years_66 (by decide) ?_
          exact h67 st x3 x5 x6 v9 (0 : Int32) x4 _ _ _ hH (lv_sub hl [1, 2, 3, 4, 6, 7, 0] rfl) hd
        · have hd := if_n c10 hd
          refine lv_iconst (v := (1 : Int32)) (pc := 62) hx hb dX0_years_62 (by decide) ?_
          refine lv_goto (pc := 63) (tgt := 67) hx hb dX0_years_63 (by decide) ?_
          exact h67 st x3 x5 x6 v9 (1 : Int32) x4 _ _ _ hH (lv_sub hl [1, 2, 3, 4, 6, 7, 0] rfl) hd
  unfold X_years at hd
  refine lv_aload_n (pc := 0) hx hb dX0_years_0 rfl (lv_at hl 0 rfl) ?_
  refine lv_iload_n (pc := 1) hx hb dX0_years_1 rfl (lv_at hl 1 rfl) ?_
  obtain ⟨v1, hv1, hd⟩ := bs_bd hd
  refine call_X_isBed (pc := 2) S hl hE hK hH q569 hv1 ⟨Nat.le_of_ble_eq_true rfl, Nat.le_of_ble_eq_true rfl⟩ (Nat.le_of_ble_eq_true rfl) dX0_years_2 ⟨Nat.zero_le _, Nat.zero_le _⟩ ?_
  refine lv_if_eq (pc := 5) (tgt := 18) hx hb dX0_years_5 (by decide) (fun c2 => ?_) (fun c2 => ?_)
  · have hd := if_t c2 hd
    refine lv_iconst (v := (-1 : Int32)) (pc := 18) hx hb dX0_years_18 (by decide) ?_
    exact g_iret (WX ct a ρ) hd S hr hlk hH dX0_years_19
  · have hd := if_n c2 hd
    refine lv_iload_n (pc := 8) hx hb dX0_years_8 rfl (lv_at hl 2 rfl) ?_
    refine lv_iconst (v := (0 : Int32)) (pc := 9) hx hb dX0_years_9 (by decide) ?_
    refine lv_bipush (v := (40 : Int32)) (pc := 10) hx hb dX0_years_10 (by decide) ?_
    obtain ⟨v3, hv3, hd⟩ := bs_bd hd
    refine call_X_isIn (pc := 12) S hl q285 hv3 ⟨Nat.le_of_ble_eq_true rfl, Nat.le_of_ble_eq_true rfl⟩ (Nat.le_of_ble_eq_true rfl) dX0_years_12 ⟨Nat.zero_le _, Nat.zero_le _⟩ ?_
    refine lv_if_ne (pc := 15) (tgt := 20) hx hb dX0_years_15 (by decide) (fun c4 => ?_) (fun c4 => ?_)
    · have hd := if_n c4 hd
      refine lv_aload_n (pc := 20) hx hb dX0_years_20 rfl (lv_at hl 0 rfl) ?_
      refine xg_yearNow (pc := 21) S hK hH dX0_years_21 ?_
      obtain ⟨w5, ew5, hd⟩ := bs_let_spec hd
      refine lv_topE (pc := 24) ew5 ?_
      refine lv_istore_n (pc := 24) (lv' := [(3, .int w5), (0, .ref (ah a 0)), (1, .int a1), (2, .int a2)]) hx hb dX0_years_24 rfl hl (by decide) rfl (fun ls hl => ?_)
      refine lv_iconst (v := (0 : Int32)) (pc := 25) hx hb dX0_years_25 (by decide) ?_
      refine lv_istore (pc := 26) (lv' := [(4, .int (0 : Int32)), (3, .int w5), (0, .ref (ah a 0)), (1, .int a1), (2, .int a2)]) hx hb dX0_years_26 hl (by decide) rfl (fun ls hl => ?_)
      refine lv_iconst (v := (0 : Int32)) (pc := 28) hx hb dX0_years_28 (by decide) ?_
      refine lv_istore (pc := 29) (lv' := [(5, .int (0 : Int32)), (4, .int (0 : Int32)), (3, .int w5), (0, .ref (ah a 0)), (1, .int a1), (2, .int a2)]) hx hb dX0_years_29 hl (by decide) rfl (fun ls hl => ?_)
      refine lv_iconst (v := (0 : Int32)) (pc := 31) hx hb dX0_years_31 (by decide) ?_
      refine lv_istore (pc := 32) (lv' := [(6, .int (0 : Int32)), (5, .int (0 : Int32)), (4, .int (0 : Int32)), (3, .int w5), (0, .ref (ah a 0)), (1, .int a1), (2, .int a2)]) hx hb dX0_years_32 hl (by decide) rfl (fun ls hl => ?_)
      exact h34 bs_fu st w5 (0 : Int32) (0 : Int32) (0 : Int32) _ _ _ hH (lv_sub hl [4, 5, 6, 3, 2, 1, 0] rfl) hd
    · have hd := if_t c4 hd
      refine lv_iconst (v := (-1 : Int32)) (pc := 18) hx hb dX0_years_18 (by decide) ?_
      exact g_iret (WX ct a ρ) hd S hr hlk hH dX0_years_19
section CR_X_years
variable {p : Program} {l : Launch} {e : Env} {R : Room} {s : State} {m : MethodId} {args : Array Value} {below : List Frame} {meth : Method} {c : Code} {H : Heap} {locs : List Loc} {cells slots : Nat} {Q : State → Prop}
variable {cc : ByteArray} {pc nL idx : Nat} {ls : Array Slot} {rest : List Value} {lv : List (Nat × Value)} {A : Nat → Prop} {H0 : Heap} {own : String}
theorem call_X_years {D : va_G} {ct : Nat → ClassId} {a : XA} {ρ : Option Nat} {st : XS} {a1 : Int32} {a2 : Int32} {z : (XS × Int32)} (S : CallFix p m c cc nL s args lw_all own) (hl : lv_has ls nL lv) (hE : gEX s) (hK : va_K D clA (tysG ct) s) (hH : GH D A (xAs a) H0 (WX ct a ρ st) H locs) (hlk : Cond.methodLink own idx yX0_years ∈ lw_all) (hv : X_years st a1 a2 = some z) (hR : 7 ≤ R.frames ∧ 193 ≤ R.locals) (hsum : (rest.map fun v => v.category).sum ≤ 8) (hdg : decode cc pc = .ok (.invokevirtual idx, 3)) (hf : cells ≤ R.cells ∧ slots ≤ R.slots)
    (k : ∀ (H1 : Heap) (locs1 : List Loc), GH D A (xAs a) H0 (WX ct a ρ z.1) H1 locs1 → W p l e R s m args below meth c H1 locs1 cells slots Q (F0 m (pc + 3) ls (.int z.2 :: rest))) : W p l e R s m args below meth c H locs cells slots Q (F0 m pc ls (.int a2 :: .int a1 :: .ref (ah a 0) :: rest)) :=
  g_calli (av := [.int a1, .int a2]) S hl gEX_ok hE hK hH (met_X_years l D ct a ρ H.size st a1 a2 z hv) (lw_V hlk q747 q748 q69 q749) rfl rfl ⟨rfl, by decide, by decide, by show (parseMethodDescriptor yX0_years.desc).map (fun d => d.parameters.length) = some 2; decide +kernel⟩ hR (x_recv hK hH) (fun _ h => Or.inl h) rfl hsum hdg hf k
end CR_X_years
/-! CapCouncil.near (II)I -/
def X_near_J93 (k29 : XS → Int32 → Int32 → Int32 → Option (XS × Int32)) (a1 : Int32) (a2 : Int32) (st : XS) (x4 : Int32) (x5 : Int32) (x6 : Int32) (y0 : Int32) : Option (XS × Int32) :=
  (J9_min x4 x6).bind fun v15 =>
  bs_let (x5 + (1 : Int32)) fun w16 =>
  k29 st y0 v15 w16
def X_near_J78 (k29 : XS → Int32 → Int32 → Int32 → Option (XS × Int32)) (a1 : Int32) (a2 : Int32) (st : XS) (x3 : Int32) (x4 : Int32) (x5 : Int32) (y0 : Int32) : Option (XS × Int32) :=
  if x4 ≤ y0 then
    (X_near_J93 (k29) a1 a2 st x4 x5 y0 x3)
  else
    (X_near_J93 (k29) a1 a2 st x4 x5 y0 x5)
def X_near_L29 (k109 : XS → Int32 → Int32 → Option (XS × Int32)) (a1 : Int32) (a2 : Int32) : Nat → XS → Int32 → Int32 → Int32 → Option (XS × Int32)
  | 0, _, _, _, _ => none
  | n + 1, st, x3, x4, x5 =>
    if (100 : Int32) ≤ x5 then
      (k109 st x3 x4)
    else
      ((X_has (xi st 8) a2).bind fun v6 =>
      if v6 = 0 then
        (X_near_J78 (X_near_L29 k109 a1 a2 n) a1 a2 st x3 x4 x5 (1048576 : Int32))
      else
        ((X_isWithin st a2 x5 (xi st 7)).bind fun v8 =>
        if v8 = 0 then
          (X_near_J78 (X_near_L29 k109 a1 a2 n) a1 a2 st x3 x4 x5 (1048576 : Int32))
        else
          ((bs_ld (xa st 5) 6 a1).bind fun v10 =>
          (X_apart x5 v10).bind fun v11 =>
          X_near_J78 (X_near_L29 k109 a1 a2 n) a1 a2 st x3 x4 x5 v11)))
def X_near_J109 (a1 : Int32) (a2 : Int32) (st : XS) (x3 : Int32) (x4 : Int32) : Option (XS × Int32) :=
  if x3 = (-9 : Int32) then
    (some (st, (-9 : Int32)))
  else
    ((X_ask st x3 x4).bind fun q13 =>
    some (q13.1, q13.2))
def X_near (st : XS) (a1 : Int32) (a2 : Int32) : Option (XS × Int32) :=
  (X_isBed st a1).bind fun v1 =>
  if v1 = 0 then
    (some (st, (-1 : Int32)))
  else
    ((X_isRing st a2).bind fun v3 =>
    if v3 = 0 then
      (some (st, (-1 : Int32)))
    else
      (X_near_L29 (X_near_J109 a1 a2) a1 a2 bs_fu st (-9 : Int32) (1048576 : Int32) (0 : Int32)))
def rm_X_near : Room := { frames := 5, cells := 0, slots := 0, locals := 143 }
set_option maxHeartbeats 4000000 in
set_option maxRecDepth 100000 in
theorem met_X_near (l : Launch) (D : va_G) (ct : Nat → ClassId) (a : XA) (ρ : Option Nat) (sz : Nat) (st : XS) (a1 : Int32) (a2 : Int32) (z : (XS × Int32)) (hd : X_near st a1 a2 = some z) : Met l yX0_near (ws_ yX0_near cX0_near 7 (some .int)) rm_X_near (GPre gEX D ct (xAs a) (WX ct a ρ st) sz [.ref (ah a 0), .int a1, .int a2]) (GQi D (xAs a) (xAs a) (WX ct a ρ z.1) sz z.2) 0 0 (gA (xAs a) sz) := by
  refine g_met (cc := cX0_near) (maxL := 7) (ret := (some .int)) (by decide) (Nat.le_of_ble_eq_true rfl) ?_
  intro p e U m args below meth c ls S hr hlk hK hH hE hsz hl
  have S : CallFix p m c cX0_near 7 U args lw_all RX0 := S
  have hx := S.1
  have hb := S.2.1
  have hl : lv_has ls 7 [(0, .ref (ah a 0)), (1, .int a1), (2, .int a2)] := hl
  have h109 : ∀ (st : XS) (x3 : Int32) (x4 : Int32) (H : Heap) (locs : List Loc) (ls : Array Slot), GH D (gA (xAs a) sz) (xAs a) U.heap (WX ct a ρ st) H locs → lv_has ls 7 [(0, .ref (ah a 0)), (1, .int a1), (2, .int a2), (3, .int x3), (4, .int x4)] → X_near_J109 a1 a2 st x3 x4 = some z → W p l e rm_X_near U m args below meth c H locs 0 0 (MQ below (GQi D (xAs a) (xAs a) (WX ct a ρ z.1) sz z.2) args U 0 0 (gA (xAs a) sz)) (F0 m 109 ls []) := by
    intro st x3 x4 H locs ls hH hl hd
    unfold X_near_J109 at hd
    refine lv_iload_n (pc := 109) hx hb dX0_near_109 rfl (lv_at hl 3 rfl) ?_
    refine lv_bipush (v := (-9 : Int32)) (pc := 110) hx hb dX0_near_110 (by decide) ?_
    refine lv_icmp_ne (pc := 112) (tgt := 120) hx hb dX0_near_112 (by decide) (fun c12 => ?_) (fun c12 => ?_)
    · have hd := if_n c12 hd
      refine lv_aload_n (pc := 120) hx hb dX0_near_120 rfl (lv_at hl 0 rfl) ?_
      refine lv_iload_n (pc := 121) hx hb dX0_near_121 rfl (lv_at hl 3 rfl) ?_
      refine lv_iload (pc := 122) hx hb dX0_near_122 (lv_at hl 4 rfl) ?_
      obtain ⟨q13, hq13, hd⟩ := bs_bd hd
      refine call_X_ask (pc := 124) S hl hE hK hH q344 hq13 ⟨Nat.le_of_ble_eq_true rfl, Nat.le_of_ble_eq_true rfl⟩ (Nat.le_of_ble_eq_true rfl) dX0_near_124 ⟨Nat.zero_le _, Nat.zero_le _⟩ (fun H locs hH => ?_)
      exact g_iret (WX ct a ρ) hd S hr hlk hH dX0_near_127
    · have hd := if_t c12 hd
      refine lv_bipush (v := (-9 : Int32)) (pc := 115) hx hb dX0_near_115 (by decide) ?_
      refine lv_goto (pc := 117) (tgt := 127) hx hb dX0_near_117 (by decide) ?_
      exact g_iret (WX ct a ρ) hd S hr hlk hH dX0_near_127
  have h29 : ∀ (n29 : Nat) (st : XS) (x3 : Int32) (x4 : Int32) (x5 : Int32) (H : Heap) (locs : List Loc) (ls : Array Slot), GH D (gA (xAs a) sz) (xAs a) U.heap (WX ct a ρ st) H locs → lv_has ls 7 [(0, .ref (ah a 0)), (1, .int a1), (2, .int a2), (3, .int x3), (4, .int x4), (5, .int x5)] → X_near_L29 (X_near_J109 a1 a2) a1 a2 n29 st x3 x4 x5 = some z → W p l e rm_X_near U m args below meth c H locs 0 0 (MQ below (GQi D (xAs a) (xAs a) (WX ct a ρ z.1) sz z.2) args U 0 0 (gA (xAs a) sz)) (F0 m 29 ls []) := by
    intro n29
    induction n29 with
    | zero =>
      intro st x3 x4 x5 H locs ls hH hl hd
      rw [X_near_L29] at hd
      cases hd
    | succ n29 ih29 =>
      have h93 : ∀ (st : XS) (x4 : Int32) (x5 : Int32) (x6 : Int32) (y0 : Int32) (H : Heap) (locs : List Loc) (ls : Array Slot), GH D (gA (xAs a) sz) (xAs a) U.heap (WX ct a ρ st) H locs → lv_has ls 7 [(0, .ref (ah a 0)), (1, .int a1), (2, .int a2), (4, .int x4), (5, .int x5), (6, .int x6)] → X_near_J93 (X_near_L29 (X_near_J109 a1 a2) a1 a2 n29) a1 a2 st x4 x5 x6 y0 = some z → W p l e rm_X_near U m args below meth c H locs 0 0 (MQ below (GQi D (xAs a) (xAs a) (WX ct a ρ z.1) sz z.2) args U 0 0 (gA (xAs a) sz)) (F0 m 93 ls [.int y0]) := by
        intro st x4 x5 x6 y0 H locs ls hH hl hd
        unfold X_near_J93 at hd
        refine lv_istore_n (pc := 93) (lv' := [(3, .int y0), (0, .ref (ah a 0)), (1, .int a1), (2, .int a2), (4, .int x4), (5, .int x5), (6, .int x6)]) hx hb dX0_near_93 rfl hl (by decide) rfl (fun ls hl => ?_)
        refine lv_iload (pc := 94) hx hb dX0_near_94 (lv_at hl 4 rfl) ?_
        refine lv_iload (pc := 96) hx hb dX0_near_96 (lv_at hl 6 rfl) ?_
        obtain ⟨v15, hv15, hd⟩ := bs_bd hd
        refine call_J9_min (pc := 98) S hl q513 hv15 ⟨Nat.le_of_ble_eq_true rfl, Nat.le_of_ble_eq_true rfl⟩ (Nat.le_of_ble_eq_true rfl) dX0_near_98 ⟨Nat.zero_le _, Nat.zero_le _⟩ ?_
        refine lv_istore (pc := 101) (lv' := [(4, .int v15), (3, .int y0), (0, .ref (ah a 0)), (1, .int a1), (2, .int a2), (5, .int x5), (6, .int x6)]) hx hb dX0_near_101 hl (by decide) rfl (fun ls hl => ?_)
        obtain ⟨w16, ew16, hd⟩ := bs_let_spec hd
        refine lv_iinc (pc := 103) (v := w16) (lv' := [(5, .int w16), (4, .int v15), (3, .int y0), (0, .ref (ah a 0)), (1, .int a1), (2, .int a2), (6, .int x6)]) hx hb dX0_near_103 hl (k := 5) rfl (by rw [ew16]; rfl) (by decide) rfl (fun ls hl => ?_)
        refine lv_goto (pc := 106) (tgt := 29) hx hb dX0_near_106 (by decide) ?_
        exact ih29 st y0 v15 w16 _ _ _ hH (lv_sub hl [3, 4, 5, 2, 1, 0] rfl) hd
      have h78 : ∀ (st : XS) (x3 : Int32) (x4 : Int32) (x5 : Int32) (y0 : Int32) (H : Heap) (locs : List Loc) (ls : Array Slot), GH D (gA (xAs a) sz) (xAs a) U.heap (WX ct a ρ st) H locs → lv_has ls 7 [(0, .ref (ah a 0)), (1, .int a1), (2, .int a2), (3, .int x3), (4, .int x4), (5, .int x5)] → X_near_J78 (X_near_L29 (X_near_J109 a1 a2) a1 a2 n29) a1 a2 st x3 x4 x5 y0 = some z → W p l e rm_X_near U m args below meth c H locs 0 0 (MQ below (GQi D (xAs a) (xAs a) (WX ct a ρ z.1) sz z.2) args U 0 0 (gA (xAs a) sz)) (F0 m 78 ls [.int y0]) := by
        intro st x3 x4 x5 y0 H locs ls hH hl hd
        unfold X_near_J78 at hd
        refine lv_istore (pc := 78) (lv' := [(6, .int y0), (0, .ref (ah a 0)), (1, .int a1), (2, .int a2), (3, .int x3), (4, .int x4), (5, .int x5)]) hx hb dX0_near_78 hl (by decide) rfl (fun ls hl => ?_)
        refine lv_iload (pc := 80) hx hb dX0_near_80 (lv_at hl 0 rfl) ?_
        refine lv_iload (pc := 82) hx hb dX0_near_82 (lv_at hl 5 rfl) ?_
        refine lv_icmp_ge (pc := 84) (tgt := 92) hx hb dX0_near_84 (by decide) (fun c14 => ?_) (fun c14 => ?_)
        · have hd := if_t c14 hd
          refine lv_iload_n (pc := 92) hx hb dX0_near_92 rfl (lv_at hl 4 rfl) ?_
          exact h93 st x4 x5 y0 x3 _ _ _ hH (lv_sub hl [1, 2, 3, 5, 6, 0] rfl) hd
        · have hd := if_n c14 hd
          refine lv_iload (pc := 87) hx hb dX0_near_87 (lv_at hl 6 rfl) ?_
          refine lv_goto (pc := 89) (tgt := 93) hx hb dX0_near_89 (by decide) ?_
          exact h93 st x4 x5 y0 x5 _ _ _ hH (lv_sub hl [1, 2, 3, 5, 6, 0] rfl) hd
      intro st x3 x4 x5 H locs ls hH hl hd
      rw [X_near_L29] at hd
      refine lv_iload (pc := 29) hx hb dX0_near_29 (lv_at hl 5 rfl) ?_
      refine lv_bipush (v := (100 : Int32)) (pc := 31) hx hb dX0_near_31 (by decide) ?_
      refine lv_icmp_ge (pc := 33) (tgt := 109) hx hb dX0_near_33 (by decide) (fun c5 => ?_) (fun c5 => ?_)
      · have hd := if_t c5 hd
        exact h109 st x3 x4 _ _ _ hH (lv_sub hl [0, 1, 2, 3, 4] rfl) hd
      · have hd := if_n c5 hd
        refine lv_aload_n (pc := 36) hx hb dX0_near_36 rfl (lv_at hl 0 rfl) ?_
        refine xg_up (pc := 37) S hK hH dX0_near_37 ?_
        refine lv_iload_n (pc := 40) hx hb dX0_near_40 rfl (lv_at hl 2 rfl) ?_
        obtain ⟨v6, hv6, hd⟩ := bs_bd hd
        refine call_X_has (pc := 41) S hl q520 hv6 ⟨Nat.le_of_ble_eq_true rfl, Nat.le_of_ble_eq_true rfl⟩ (Nat.le_of_ble_eq_true rfl) dX0_near_41 ⟨Nat.zero_le _, Nat.zero_le _⟩ ?_
        refine lv_if_eq (pc := 44) (tgt := 75) hx hb dX0_near_44 (by decide) (fun c7 => ?_) (fun c7 => ?_)
        · have hd := if_t c7 hd
          refine lv_ldcw (pc := 75) (own := RX0) (v := (1048576 : Int32)) hx hb S.2.2.2.1 (S.2.2.2.2 _ q754) dX0_near_75 ?_
          exact h78 st x3 x4 x5 (1048576 : Int32) _ _ _ hH (lv_sub hl [0, 1, 2, 3, 4, 5] rfl) hd
        · have hd := if_n c7 hd
          refine lv_aload_n (pc := 47) hx hb dX0_near_47 rfl (lv_at hl 0 rfl) ?_
          refine lv_iload_n (pc := 48) hx hb dX0_near_48 rfl (lv_at hl 2 rfl) ?_
          refine lv_iload (pc := 49) hx hb dX0_near_49 (lv_at hl 5 rfl) ?_
          refine lv_aload_n (pc := 51) hx hb dX0_near_51 rfl (lv_at hl 0 rfl) ?_
          refine xg_yearNow (pc := 52) S hK hH dX0_near_52 ?_
          obtain ⟨v8, hv8, hd⟩ := bs_bd hd
          refine call_X_isWithin (pc := 55) S hl hE hK hH q523 hv8 ⟨Nat.le_of_ble_eq_true rfl, Nat.le_of_ble_eq_true rfl⟩ (Nat.le_of_ble_eq_true rfl) dX0_near_55 ⟨Nat.zero_le _, Nat.zero_le _⟩ ?_
          refine lv_if_eq (pc := 58) (tgt := 75) hx hb dX0_near_58 (by decide) (fun c9 => ?_) (fun c9 => ?_)
          · have hd := if_t c9 hd
            refine lv_ldcw (pc := 75) (own := RX0) (v := (1048576 : Int32)) hx hb S.2.2.2.1 (S.2.2.2.2 _ q754) dX0_near_75 ?_
            exact h78 st x3 x4 x5 (1048576 : Int32) _ _ _ hH (lv_sub hl [0, 1, 2, 3, 4, 5] rfl) hd
          · have hd := if_n c9 hd
            refine lv_iload (pc := 61) hx hb dX0_near_61 (lv_at hl 5 rfl) ?_
            refine lv_aload_n (pc := 63) hx hb dX0_near_63 rfl (lv_at hl 0 rfl) ?_
            refine xg_places (pc := 64) S hK hH dX0_near_64 ?_
            refine lv_iload_n (pc := 67) hx hb dX0_near_67 rfl (lv_at hl 1 rfl) ?_
            obtain ⟨v10, hv10, hd⟩ := bs_bd hd
            refine xl_places (pc := 68) S hK hH hv10 dX0_near_68 ?_
            obtain ⟨v11, hv11, hd⟩ := bs_bd hd
            refine call_X_apart (pc := 69) S hl q530 hv11 ⟨Nat.le_of_ble_eq_true rfl, Nat.le_of_ble_eq_true rfl⟩ (Nat.le_of_ble_eq_true rfl) dX0_near_69 ⟨Nat.zero_le _, Nat.zero_le _⟩ ?_
            refine lv_goto (pc := 72) (tgt := 78) hx hb dX0_near_72 (by decide) ?_
            exact h78 st x3 x4 x5 v11 _ _ _ hH (lv_sub hl [0, 1, 2, 3, 4, 5] rfl) hd
  unfold X_near at hd
  refine lv_aload_n (pc := 0) hx hb dX0_near_0 rfl (lv_at hl 0 rfl) ?_
  refine lv_iload_n (pc := 1) hx hb dX0_near_1 rfl (lv_at hl 1 rfl) ?_
  obtain ⟨v1, hv1, hd⟩ := bs_bd hd
  refine call_X_isBed (pc := 2) S hl hE hK hH q569 hv1 ⟨Nat.le_of_ble_eq_true rfl, Nat.le_of_ble_eq_true rfl⟩ (Nat.le_of_ble_eq_true rfl) dX0_near_2 ⟨Nat.zero_le _, Nat.zero_le _⟩ ?_
  refine lv_if_eq (pc := 5) (tgt := 16) hx hb dX0_near_5 (by decide) (fun c2 => ?_) (fun c2 => ?_)
  · have hd := if_t c2 hd
    refine lv_iconst (v := (-1 : Int32)) (pc := 16) hx hb dX0_near_16 (by decide) ?_
    exact g_iret (WX ct a ρ) hd S hr hlk hH dX0_near_17
  · have hd := if_n c2 hd
    refine lv_aload_n (pc := 8) hx hb dX0_near_8 rfl (lv_at hl 0 rfl) ?_
    refine lv_iload_n (pc := 9) hx hb dX0_near_9 rfl (lv_at hl 2 rfl) ?_
    obtain ⟨v3, hv3, hd⟩ := bs_bd hd
    refine call_X_isRing (pc := 10) S hl hE hK hH q481 hv3 ⟨Nat.le_of_ble_eq_true rfl, Nat.le_of_ble_eq_true rfl⟩ (Nat.le_of_ble_eq_true rfl) dX0_near_10 ⟨Nat.zero_le _, Nat.zero_le _⟩ ?_
    refine lv_if_ne (pc := 13) (tgt := 18) hx hb dX0_near_13 (by decide) (fun c4 => ?_) (fun c4 => ?_)
    · have hd := if_n c4 hd
      refine lv_bipush (v := (-9 : Int32)) (pc := 18) hx hb dX0_near_18 (by decide) ?_
      refine lv_istore_n (pc := 20) (lv' := [(3, .int (-9 : Int32)), (0, .ref (ah a 0)), (1, .int a1), (2, .int a2)]) hx hb dX0_near_20 rfl hl (by decide) rfl (fun ls hl => ?_)
      refine lv_ldcw (pc := 21) (own := RX0) (v := (1048576 : Int32)) hx hb S.2.2.2.1 (S.2.2.2.2 _ q754) dX0_near_21 ?_
      refine lv_istore (pc := 24) (lv' := [(4, .int (1048576 : Int32)), (3, .int (-9 : Int32)), (0, .ref (ah a 0)), (1, .int a1), (2, .int a2)]) hx hb dX0_near_24 hl (by decide) rfl (fun ls hl => ?_)
      refine lv_iconst (v := (0 : Int32)) (pc := 26) hx hb dX0_near_26 (by decide) ?_
      refine lv_istore (pc := 27) (lv' := [(5, .int (0 : Int32)), (4, .int (1048576 : Int32)), (3, .int (-9 : Int32)), (0, .ref (ah a 0)), (1, .int a1), (2, .int a2)]) hx hb dX0_near_27 hl (by decide) rfl (fun ls hl => ?_)
      exact h29 bs_fu st (-9 : Int32) (1048576 : Int32) (0 : Int32) _ _ _ hH (lv_sub hl [3, 4, 5, 2, 1, 0] rfl) hd
    · have hd := if_t c4 hd
      refine lv_iconst (v := (-1 : Int32)) (pc := 16) hx hb dX0_near_16 (by decide) ?_
      exact g_iret (WX ct a ρ) hd S hr hlk hH dX0_near_17
section CR_X_near
variable {p : Program} {l : Launch} {e : Env} {R : Room} {s : State} {m : MethodId} {args : Array Value} {below : List Frame} {meth : Method} {c : Code} {H : Heap} {locs : List Loc} {cells slots : Nat} {Q : State → Prop}
variable {cc : ByteArray} {pc nL idx : Nat} {ls : Array Slot} {rest : List Value} {lv : List (Nat × Value)} {A : Nat → Prop} {H0 : Heap} {own : String}
theorem call_X_near {D : va_G} {ct : Nat → ClassId} {a : XA} {ρ : Option Nat} {st : XS} {a1 : Int32} {a2 : Int32} {z : (XS × Int32)} (S : CallFix p m c cc nL s args lw_all own) (hl : lv_has ls nL lv) (hE : gEX s) (hK : va_K D clA (tysG ct) s) (hH : GH D A (xAs a) H0 (WX ct a ρ st) H locs) (hlk : Cond.methodLink own idx yX0_near ∈ lw_all) (hv : X_near st a1 a2 = some z) (hR : 6 ≤ R.frames ∧ 169 ≤ R.locals) (hsum : (rest.map fun v => v.category).sum ≤ 8) (hdg : decode cc pc = .ok (.invokevirtual idx, 3)) (hf : cells ≤ R.cells ∧ slots ≤ R.slots)
    (k : ∀ (H1 : Heap) (locs1 : List Loc), GH D A (xAs a) H0 (WX ct a ρ z.1) H1 locs1 → W p l e R s m args below meth c H1 locs1 cells slots Q (F0 m (pc + 3) ls (.int z.2 :: rest))) : W p l e R s m args below meth c H locs cells slots Q (F0 m pc ls (.int a2 :: .int a1 :: .ref (ah a 0) :: rest)) :=
  g_calli (av := [.int a1, .int a2]) S hl gEX_ok hE hK hH (met_X_near l D ct a ρ H.size st a1 a2 z hv) (lw_V hlk q751 q752 q69 q753) rfl rfl ⟨rfl, by decide, by decide, by show (parseMethodDescriptor yX0_near.desc).map (fun d => d.parameters.length) = some 2; decide +kernel⟩ hR (x_recv hK hH) (fun _ h => Or.inl h) rfl hsum hdg hf k
end CR_X_near
/-! CapCouncil.unmake (II)I -/
def X_unmake_J80 (k48 : XS → Int32 → Int32 → Int32 → Option (XS × Int32)) (a1 : Int32) (a2 : Int32) (st : XS) (x4 : Int32) (x5 : Int32) (x6 : Int32) (y0 : Int32) : Option (XS × Int32) :=
  if (x6 &&& (x4 ^^^ (-1 : Int32))) = 0 then
    (if y0 = 0 then
      (bs_let (x6 + (1 : Int32)) fun w20 =>
      k48 st x4 x5 w20)
    else
      (bs_let (x4 &&& (x6 ^^^ (-1 : Int32))) fun w21 =>
      bs_let (sxi st 8 w21) fun s22 =>
      (X_seated s22).bind fun v23 =>
      if (a1 &&& (v23 ^^^ (-1 : Int32))) = 0 then
        (if (a2 &&& v23) = 0 then
          (bs_let (x6 + (1 : Int32)) fun w28 =>
          k48 s22 x4 x6 w28)
        else
          (bs_let (x6 + (1 : Int32)) fun w27 =>
          k48 s22 x4 x5 w27))
      else
        (bs_let (x6 + (1 : Int32)) fun w25 =>
        k48 s22 x4 x5 w25)))
  else
    (bs_let (x6 + (1 : Int32)) fun w18 =>
    k48 st x4 x5 w18)
def X_unmake_L48 (k145 : XS → Int32 → Int32 → Option (XS × Int32)) (a1 : Int32) (a2 : Int32) : Nat → XS → Int32 → Int32 → Int32 → Option (XS × Int32)
  | 0, _, _, _, _ => none
  | n + 1, st, x4, x5, x6 =>
    if x4 < x6 then
      (k145 st x4 x5)
    else
      (if x5 = (-9 : Int32) then
        (X_unmake_J80 (X_unmake_L48 k145 a1 a2 n) a1 a2 st x4 x5 x6 (1 : Int32))
      else
        ((J11_bitCount x6).bind fun v10 =>
        (J11_bitCount x5).bind fun v11 =>
        if v11 ≤ v10 then
          (X_unmake_J80 (X_unmake_L48 k145 a1 a2 n) a1 a2 st x4 x5 x6 (0 : Int32))
        else
          (X_unmake_J80 (X_unmake_L48 k145 a1 a2 n) a1 a2 st x4 x5 x6 (1 : Int32))))
def X_unmake_J145 (a1 : Int32) (a2 : Int32) (st : XS) (x4 : Int32) (x5 : Int32) : Option (XS × Int32) :=
  bs_let (sxi st 8 x4) fun s13 =>
  if x5 = (-9 : Int32) then
    (some (s13, (-9 : Int32)))
  else
    ((J11_bitCount x5).bind fun v15 =>
    (X_ask s13 x5 v15).bind fun q16 =>
    some (q16.1, q16.2))
def X_unmake (st : XS) (a1 : Int32) (a2 : Int32) : Option (XS × Int32) :=
  bs_let (((1 : Int32) <<< ((xi st 3) &&& 31)) - (1 : Int32)) fun w1 =>
  (X_isIn a1 (0 : Int32) w1).bind fun v2 =>
  if v2 = 0 then
    (some (st, (-1 : Int32)))
  else
    ((X_isIn a2 (0 : Int32) w1).bind fun v4 =>
    if v4 = 0 then
      (some (st, (-1 : Int32)))
    else
      (if (a1 &&& a2) = 0 then
        (bs_let (xi st 8) fun w7 =>
        X_unmake_L48 (X_unmake_J145 a1 a2) a1 a2 bs_fu st w7 (-9 : Int32) (0 : Int32))
      else
        (some (st, (-1 : Int32)))))
def rm_X_unmake : Room := { frames := 7, cells := 0, slots := 0, locals := 188 }
set_option maxHeartbeats 4000000 in
set_option maxRecDepth 100000 in
theorem met_X_unmake (l : Launch) (D : va_G) (ct : Nat → ClassId) (a : XA) (ρ : Option Nat) (sz : Nat) (st : XS) (a1 : Int32) (a2 : Int32) (z : (XS × Int32)) (hd : X_unmake st a1 a2 = some z) : Met l yX0_unmake (ws_ yX0_unmake cX0_unmake 9 (some .int)) rm_X_unmake (GPre gEX D ct (xAs a) (WX ct a ρ st) sz [.ref (ah a 0), .int a1, .int a2]) (GQi D (xAs a) (xAs a) (WX ct a ρ z.1) sz z.2) 0 0 (gA (xAs a) sz) := by
  refine g_met (cc := cX0_unmake) (maxL := 9) (ret := (some .int)) (by decide) (Nat.le_of_ble_eq_true rfl) ?_
  intro p e U m args below meth c ls S hr hlk hK hH hE hsz hl
  have S : CallFix p m c cX0_unmake 9 U args lw_all RX0 := S
  have hx := S.1
  have hb := S.2.1
  have hl : lv_has ls 9 [(0, .ref (ah a 0)), (1, .int a1), (2, .int a2)] := hl
  have h145 : ∀ (st : XS) (x4 : Int32) (x5 : Int32) (H : Heap) (locs : List Loc) (ls : Array Slot), GH D (gA (xAs a) sz) (xAs a) U.heap (WX ct a ρ st) H locs → lv_has ls 9 [(0, .ref (ah a 0)), (1, .int a1), (2, .int a2), (4, .int x4), (5, .int x5)] → X_unmake_J145 a1 a2 st x4 x5 = some z → W p l e rm_X_unmake U m args below meth c H locs 0 0 (MQ below (GQi D (xAs a) (xAs a) (WX ct a ρ z.1) sz z.2) args U 0 0 (gA (xAs a) sz)) (F0 m 145 ls []) := by
    intro st x4 x5 H locs ls hH hl hd
    unfold X_unmake_J145 at hd
    refine lv_aload_n (pc := 145) hx hb dX0_unmake_145 rfl (lv_at hl 0 rfl) ?_
    refine lv_iload (pc := 146) hx hb dX0_unmake_146 (lv_at hl 3 rfl) ?_
    obtain ⟨s13, es13, hd⟩ := bs_let_spec hd
    refine xp_up (pc := 148) S hK hH dX0_unmake_148 es13 (fun H locs hH => ?_)
    refine lv_iload (pc := 151) hx hb dX0_unmake_151 (lv_at hl 4 rfl) ?_
    refine lv_bipush (v := (-9 : Int32)) (pc := 153) hx hb dX0_unmake_153 (by decide) ?_
    refine lv_icmp_ne (pc := 155) (tgt := 163) hx hb dX0_unmake_155 (by decide) (fun c14 => ?_) (fun c14 => ?_)
    · have hd := if_n c14 hd
      refine lv_aload_n (pc := 163) hx hb dX0_unmake_163 rfl (lv_at hl 0 rfl) ?_
      refine lv_iload (pc := 164) hx hb dX0_unmake_164 (lv_at hl 4 rfl) ?_
      refine lv_iload (pc := 166) hx hb dX0_unmake_166 (lv_at hl 4 rfl) ?_
      obtain ⟨v15, hv15, hd⟩ := bs_bd hd
      refine call_J11_bitCount (pc := 168) S hl q669 hv15 ⟨Nat.le_of_ble_eq_true rfl, Nat.le_of_ble_eq_true rfl⟩ (Nat.le_of_ble_eq_true rfl) dX0_unmake_168 ⟨Nat.zero_le _, Nat.zero_le _⟩ ?_
      obtain ⟨q16, hq16, hd⟩ := bs_bd hd
      refine call_X_ask (pc := 171) S hl hE hK hH q344 hq16 ⟨Nat.le_of_ble_eq_true rfl, Nat.le_of_ble_eq_true rfl⟩ (Nat.le_of_ble_eq_true rfl) dX0_unmake_171 ⟨Nat.zero_le _, Nat.zero_le _⟩ (fun H locs hH => ?_)
      exact g_iret (WX ct a ρ) hd S hr hlk hH dX0_unmake_174
    · have hd := if_t c14 hd
      refine lv_bipush (v := (-9 : Int32)) (pc := 158) hx hb dX0_unmake_158 (by decide) ?_
      refine lv_goto (pc := 160) (tgt := 174) hx hb dX0_unmake_160 (by decide) ?_
      exact g_iret (WX ct a ρ) hd S hr hlk hH dX0_unmake_174
  have h48 : ∀ (n48 : Nat) (st : XS) (x4 : Int32) (x5 : Int32) (x6 : Int32) (H : Heap) (locs : List Loc) (ls : Array Slot), GH D (gA (xAs a) sz) (xAs a) U.heap (WX ct a ρ st) H locs → lv_has ls 9 [(0, .ref (ah a 0)), (1, .int a1), (2, .int a2), (4, .int x4), (5, .int x5), (6, .int x6)] → X_unmake_L48 (X_unmake_J145 a1 a2) a1 a2 n48 st x4 x5 x6 = some z → W p l e rm_X_unmake U m args below meth c H locs 0 0 (MQ below (GQi D (xAs a) (xAs a) (WX ct a ρ z.1) sz z.2) args U 0 0 (gA (xAs a) sz)) (F0 m 48 ls []) := by
    intro n48
    induction n48 with
    | zero =>
      intro st x4 x5 x6 H locs ls hH hl hd
      rw [X_unmake_L48] at hd
      cases hd
    | succ n48 ih48 =>
      have h80 : ∀ (st : XS) (x4 : Int32) (x5 : Int32) (x6 : Int32) (y0 : Int32) (H : Heap) (locs : List Loc) (ls : Array Slot), GH D (gA (xAs a) sz) (xAs a) U.heap (WX ct a ρ st) H locs → lv_has ls 9 [(0, .ref (ah a 0)), (1, .int a1), (2, .int a2), (4, .int x4), (5, .int x5), (6, .int x6)] → X_unmake_J80 (X_unmake_L48 (X_unmake_J145 a1 a2) a1 a2 n48) a1 a2 st x4 x5 x6 y0 = some z → W p l e rm_X_unmake U m args below meth c H locs 0 0 (MQ below (GQi D (xAs a) (xAs a) (WX ct a ρ z.1) sz z.2) args U 0 0 (gA (xAs a) sz)) (F0 m 80 ls [.int y0]) := by
        intro st x4 x5 x6 y0 H locs ls hH hl hd
        unfold X_unmake_J80 at hd
        refine lv_istore (pc := 80) (lv' := [(7, .int y0), (0, .ref (ah a 0)), (1, .int a1), (2, .int a2), (4, .int x4), (5, .int x5), (6, .int x6)]) hx hb dX0_unmake_80 hl (by decide) rfl (fun ls hl => ?_)
        refine lv_iload (pc := 82) hx hb dX0_unmake_82 (lv_at hl 6 rfl) ?_
        refine lv_iload (pc := 84) hx hb dX0_unmake_84 (lv_at hl 4 rfl) ?_
        refine lv_iconst (v := (-1 : Int32)) (pc := 86) hx hb dX0_unmake_86 (by decide) ?_
        refine lv_ixor (pc := 87) hx hb dX0_unmake_87 ?_
        refine lv_iand (pc := 88) hx hb dX0_unmake_88 ?_
        refine lv_if_ne (pc := 89) (tgt := 139) hx hb dX0_unmake_89 (by decide) (fun c17 => ?_) (fun c17 => ?_)
        · have hd := if_n c17 hd
          obtain ⟨w18, ew18, hd⟩ := bs_let_spec hd
          refine lv_iinc (pc := 139) (v := w18) (lv' := [(6, .int w18), (7, .int y0), (0, .ref (ah a 0)), (1, .int a1), (2, .int a2), (4, .int x4), (5, .int x5)]) hx hb dX0_unmake_139 hl (k := 6) rfl (by rw [ew18]; rfl) (by decide) rfl (fun ls hl => ?_)
          refine lv_goto (pc := 142) (tgt := 48) hx hb dX0_unmake_142 (by decide) ?_
          exact ih48 st x4 x5 w18 _ _ _ hH (lv_sub hl [2, 3, 4, 5, 6, 0] rfl) hd
        · have hd := if_t c17 hd
          refine lv_iload (pc := 92) hx hb dX0_unmake_92 (lv_at hl 0 rfl) ?_
          refine lv_if_eq (pc := 94) (tgt := 139) hx hb dX0_unmake_94 (by decide) (fun c19 => ?_) (fun c19 => ?_)
          · have hd := if_t c19 hd
            obtain ⟨w20, ew20, hd⟩ := bs_let_spec hd
            refine lv_iinc (pc := 139) (v := w20) (lv' := [(6, .int w20), (7, .int y0), (0, .ref (ah a 0)), (1, .int a1), (2, .int a2), (4, .int x4), (5, .int x5)]) hx hb dX0_unmake_139 hl (k := 6) rfl (by rw [ew20]; rfl) (by decide) rfl (fun ls hl => ?_)
            refine lv_goto (pc := 142) (tgt := 48) hx hb dX0_unmake_142 (by decide) ?_
            exact ih48 st x4 x5 w20 _ _ _ hH (lv_sub hl [2, 3, 4, 5, 6, 0] rfl) hd
          · have hd := if_n c19 hd
            refine lv_aload_n (pc := 97) hx hb dX0_unmake_97 rfl (lv_at hl 1 rfl) ?_
            refine lv_iload (pc := 98) hx hb dX0_unmake_98 (lv_at hl 4 rfl) ?_
            refine lv_iload (pc := 100) hx hb dX0_unmake_100 (lv_at hl 6 rfl) ?_
            refine lv_iconst (v := (-1 : Int32)) (pc := 102) hx hb dX0_unmake_102 (by decide) ?_
            refine lv_ixor (pc := 103) hx hb dX0_unmake_103 ?_
            refine lv_iand (pc := 104) hx hb dX0_unmake_104 ?_
            obtain ⟨w21, ew21, hd⟩ := bs_let_spec hd
            refine lv_topE (pc := 105) ew21 ?_
            obtain ⟨s22, es22, hd⟩ := bs_let_spec hd
            refine xp_up (pc := 105) S hK hH dX0_unmake_105 es22 (fun H locs hH => ?_)
            refine lv_aload_n (pc := 108) hx hb dX0_unmake_108 rfl (lv_at hl 1 rfl) ?_
            obtain ⟨v23, hv23, hd⟩ := bs_bd hd
            refine call_X_seated (pc := 109) S hl hE hK hH q665 hv23 ⟨Nat.le_of_ble_eq_true rfl, Nat.le_of_ble_eq_true rfl⟩ (Nat.le_of_ble_eq_true rfl) dX0_unmake_109 ⟨Nat.zero_le _, Nat.zero_le _⟩ ?_
            refine lv_istore (pc := 112) (lv' := [(8, .int v23), (7, .int y0), (0, .ref (ah a 0)), (1, .int a1), (2, .int a2), (4, .int x4), (5, .int x5), (6, .int x6)]) hx hb dX0_unmake_112 hl (by decide) rfl (fun ls hl => ?_)
            refine lv_iload_n (pc := 114) hx hb dX0_unmake_114 rfl (lv_at hl 3 rfl) ?_
            refine lv_iload (pc := 115) hx hb dX0_unmake_115 (lv_at hl 0 rfl) ?_
            refine lv_iconst (v := (-1 : Int32)) (pc := 117) hx hb dX0_unmake_117 (by decide) ?_
            refine lv_ixor (pc := 118) hx hb dX0_unmake_118 ?_
            refine lv_iand (pc := 119) hx hb dX0_unmake_119 ?_
            refine lv_if_ne (pc := 120) (tgt := 135) hx hb dX0_unmake_120 (by decide) (fun c24 => ?_) (fun c24 => ?_)
            · have hd := if_n c24 hd
              refine lv_iload (pc := 135) hx hb dX0_unmake_135 (lv_at hl 6 rfl) ?_
              refine lv_istore (pc := 137) (lv' := [(5, .int x5), (8, .int v23), (7, .int y0), (0, .ref (ah a 0)), (1, .int a1), (2, .int a2), (4, .int x4), (6, .int x6)]) hx hb dX0_unmake_137 hl (by decide) rfl (fun ls hl => ?_)
              obtain ⟨w25, ew25, hd⟩ := bs_let_spec hd
              refine lv_iinc (pc := 139) (v := w25) (lv' := [(6, .int w25), (5, .int x5), (8, .int v23), (7, .int y0), (0, .ref (ah a 0)), (1, .int a1), (2, .int a2), (4, .int x4)]) hx hb dX0_unmake_139 hl (k := 7) rfl (by rw [ew25]; rfl) (by decide) rfl (fun ls hl => ?_)
              refine lv_goto (pc := 142) (tgt := 48) hx hb dX0_unmake_142 (by decide) ?_
              exact ih48 s22 x4 x5 w25 _ _ _ hH (lv_sub hl [4, 5, 6, 7, 1, 0] rfl) hd
            · have hd := if_t c24 hd
              refine lv_iload_n (pc := 123) hx hb dX0_unmake_123 rfl (lv_at hl 4 rfl) ?_
              refine lv_iload (pc := 124) hx hb dX0_unmake_124 (lv_at hl 0 rfl) ?_
              refine lv_iand (pc := 126) hx hb dX0_unmake_126 ?_
              refine lv_if_ne (pc := 127) (tgt := 135) hx hb dX0_unmake_127 (by decide) (fun c26 => ?_) (fun c26 => ?_)
              · have hd := if_n c26 hd
                refine lv_iload (pc := 135) hx hb dX0_unmake_135 (lv_at hl 6 rfl) ?_
                refine lv_istore (pc := 137) (lv' := [(5, .int x5), (8, .int v23), (7, .int y0), (0, .ref (ah a 0)), (1, .int a1), (2, .int a2), (4, .int x4), (6, .int x6)]) hx hb dX0_unmake_137 hl (by decide) rfl (fun ls hl => ?_)
                obtain ⟨w27, ew27, hd⟩ := bs_let_spec hd
                refine lv_iinc (pc := 139) (v := w27) (lv' := [(6, .int w27), (5, .int x5), (8, .int v23), (7, .int y0), (0, .ref (ah a 0)), (1, .int a1), (2, .int a2), (4, .int x4)]) hx hb dX0_unmake_139 hl (k := 7) rfl (by rw [ew27]; rfl) (by decide) rfl (fun ls hl => ?_)
                refine lv_goto (pc := 142) (tgt := 48) hx hb dX0_unmake_142 (by decide) ?_
                exact ih48 s22 x4 x5 w27 _ _ _ hH (lv_sub hl [4, 5, 6, 7, 1, 0] rfl) hd
              · have hd := if_t c26 hd
                refine lv_iload (pc := 130) hx hb dX0_unmake_130 (lv_at hl 7 rfl) ?_
                refine lv_goto (pc := 132) (tgt := 137) hx hb dX0_unmake_132 (by decide) ?_
                refine lv_istore (pc := 137) (lv' := [(5, .int x6), (8, .int v23), (7, .int y0), (0, .ref (ah a 0)), (1, .int a1), (2, .int a2), (4, .int x4), (6, .int x6)]) hx hb dX0_unmake_137 hl (by decide) rfl (fun ls hl => ?_)
                obtain ⟨w28, ew28, hd⟩ := bs_let_spec hd
                refine lv_iinc (pc := 139) (v := w28) (lv' := [(6, .int w28), (5, .int x6), (8, .int v23), (7, .int y0), (0, .ref (ah a 0)), (1, .int a1), (2, .int a2), (4, .int x4)]) hx hb dX0_unmake_139 hl (k := 7) rfl (by rw [ew28]; rfl) (by decide) rfl (fun ls hl => ?_)
                refine lv_goto (pc := 142) (tgt := 48) hx hb dX0_unmake_142 (by decide) ?_
                exact ih48 s22 x4 x6 w28 _ _ _ hH (lv_sub hl [4, 5, 6, 7, 1, 0] rfl) hd
      intro st x4 x5 x6 H locs ls hH hl hd
      rw [X_unmake_L48] at hd
      refine lv_iload (pc := 48) hx hb dX0_unmake_48 (lv_at hl 5 rfl) ?_
      refine lv_iload (pc := 50) hx hb dX0_unmake_50 (lv_at hl 3 rfl) ?_
      refine lv_icmp_gt (pc := 52) (tgt := 145) hx hb dX0_unmake_52 (by decide) (fun c8 => ?_) (fun c8 => ?_)
      · have hd := if_t c8 hd
        exact h145 st x4 x5 _ _ _ hH (lv_sub hl [0, 1, 2, 3, 4] rfl) hd
      · have hd := if_n c8 hd
        refine lv_iload (pc := 55) hx hb dX0_unmake_55 (lv_at hl 4 rfl) ?_
        refine lv_bipush (v := (-9 : Int32)) (pc := 57) hx hb dX0_unmake_57 (by decide) ?_
        refine lv_icmp_eq (pc := 59) (tgt := 75) hx hb dX0_unmake_59 (by decide) (fun c9 => ?_) (fun c9 => ?_)
        · have hd := if_t c9 hd
          refine lv_iconst (v := (1 : Int32)) (pc := 75) hx hb dX0_unmake_75 (by decide) ?_
          refine lv_goto (pc := 76) (tgt := 80) hx hb dX0_unmake_76 (by decide) ?_
          exact h80 st x4 x5 x6 (1 : Int32) _ _ _ hH (lv_sub hl [0, 1, 2, 3, 4, 5] rfl) hd
        · have hd := if_n c9 hd
          refine lv_iload (pc := 62) hx hb dX0_unmake_62 (lv_at hl 5 rfl) ?_
          obtain ⟨v10, hv10, hd⟩ := bs_bd hd
          refine call_J11_bitCount (pc := 64) S hl q669 hv10 ⟨Nat.le_of_ble_eq_true rfl, Nat.le_of_ble_eq_true rfl⟩ (Nat.le_of_ble_eq_true rfl) dX0_unmake_64 ⟨Nat.zero_le _, Nat.zero_le _⟩ ?_
          refine lv_iload (pc := 67) hx hb dX0_unmake_67 (lv_at hl 4 rfl) ?_
          obtain ⟨v11, hv11, hd⟩ := bs_bd hd
          refine call_J11_bitCount (pc := 69) S hl q669 hv11 ⟨Nat.le_of_ble_eq_true rfl, Nat.le_of_ble_eq_true rfl⟩ (Nat.le_of_ble_eq_true rfl) dX0_unmake_69 ⟨Nat.zero_le _, Nat.zero_le _⟩ ?_
          refine lv_icmp_ge (pc := 72) (tgt := 79) hx hb dX0_unmake_72 (by decide) (fun c12 => ?_) (fun c12 => ?_)
          · have hd := if_t c12 hd
            refine lv_iconst (v := (0 : Int32)) (pc := 79) hx hb dX0_unmake_79 (by decide) ?_
            exact h80 st x4 x5 x6 (0 : Int32) _ _ _ hH (lv_sub hl [0, 1, 2, 3, 4, 5] rfl) hd
          · have hd := if_n c12 hd
            refine lv_iconst (v := (1 : Int32)) (pc := 75) hx hb dX0_unmake_75 (by decide) ?_
            refine lv_goto (pc := 76) (tgt := 80) hx hb dX0_unmake_76 (by decide) ?_
            exact h80 st x4 x5 x6 (1 : Int32) _ _ _ hH (lv_sub hl [0, 1, 2, 3, 4, 5] rfl) hd
  unfold X_unmake at hd
  refine lv_iconst (v := (1 : Int32)) (pc := 0) hx hb dX0_unmake_0 (by decide) ?_
  refine lv_aload_n (pc := 1) hx hb dX0_unmake_1 rfl (lv_at hl 0 rfl) ?_
  refine xg_bedMany (pc := 2) S hK hH dX0_unmake_2 ?_
  refine lv_ishl (pc := 5) hx hb dX0_unmake_5 ?_
  refine lv_iconst (v := (1 : Int32)) (pc := 6) hx hb dX0_unmake_6 (by decide) ?_
  refine lv_isub (pc := 7) hx hb dX0_unmake_7 ?_
  obtain ⟨w1, ew1, hd⟩ := bs_let_spec hd
  refine lv_topE (pc := 8) ew1 ?_
  refine lv_istore_n (pc := 8) (lv' := [(3, .int w1), (0, .ref (ah a 0)), (1, .int a1), (2, .int a2)]) hx hb dX0_unmake_8 rfl hl (by decide) rfl (fun ls hl => ?_)
  refine lv_iload_n (pc := 9) hx hb dX0_unmake_9 rfl (lv_at hl 2 rfl) ?_
  refine lv_iconst (v := (0 : Int32)) (pc := 10) hx hb dX0_unmake_10 (by decide) ?_
  refine lv_iload_n (pc := 11) hx hb dX0_unmake_11 rfl (lv_at hl 0 rfl) ?_
  obtain ⟨v2, hv2, hd⟩ := bs_bd hd
  refine call_X_isIn (pc := 12) S hl q285 hv2 ⟨Nat.le_of_ble_eq_true rfl, Nat.le_of_ble_eq_true rfl⟩ (Nat.le_of_ble_eq_true rfl) dX0_unmake_12 ⟨Nat.zero_le _, Nat.zero_le _⟩ ?_
  refine lv_if_eq (pc := 15) (tgt := 33) hx hb dX0_unmake_15 (by decide) (fun c3 => ?_) (fun c3 => ?_)
  · have hd := if_t c3 hd
    refine lv_iconst (v := (-1 : Int32)) (pc := 33) hx hb dX0_unmake_33 (by decide) ?_
    exact g_iret (WX ct a ρ) hd S hr hlk hH dX0_unmake_34
  · have hd := if_n c3 hd
    refine lv_iload_n (pc := 18) hx hb dX0_unmake_18 rfl (lv_at hl 3 rfl) ?_
    refine lv_iconst (v := (0 : Int32)) (pc := 19) hx hb dX0_unmake_19 (by decide) ?_
    refine lv_iload_n (pc := 20) hx hb dX0_unmake_20 rfl (lv_at hl 0 rfl) ?_
    obtain ⟨v4, hv4, hd⟩ := bs_bd hd
    refine call_X_isIn (pc := 21) S hl q285 hv4 ⟨Nat.le_of_ble_eq_true rfl, Nat.le_of_ble_eq_true rfl⟩ (Nat.le_of_ble_eq_true rfl) dX0_unmake_21 ⟨Nat.zero_le _, Nat.zero_le _⟩ ?_
    refine lv_if_eq (pc := 24) (tgt := 33) hx hb dX0_unmake_24 (by decide) (fun c5 => ?_) (fun c5 => ?_)
    · have hd := if_t c5 hd
      refine lv_iconst (v := (-1 : Int32)) (pc := 33) hx hb dX0_unmake_33 (by decide) ?_
      exact g_iret (WX ct a ρ) hd S hr hlk hH dX0_unmake_34
    · have hd := if_n c5 hd
      refine lv_iload_n (pc := 27) hx hb dX0_unmake_27 rfl (lv_at hl 2 rfl) ?_
      refine lv_iload_n (pc := 28) hx hb dX0_unmake_28 rfl (lv_at hl 3 rfl) ?_
      refine lv_iand (pc := 29) hx hb dX0_unmake_29 ?_
      refine lv_if_eq (pc := 30) (tgt := 35) hx hb dX0_unmake_30 (by decide) (fun c6 => ?_) (fun c6 => ?_)
      · have hd := if_t c6 hd
        refine lv_aload_n (pc := 35) hx hb dX0_unmake_35 rfl (lv_at hl 1 rfl) ?_
        refine xg_up (pc := 36) S hK hH dX0_unmake_36 ?_
        obtain ⟨w7, ew7, hd⟩ := bs_let_spec hd
        refine lv_topE (pc := 39) ew7 ?_
        refine lv_istore (pc := 39) (lv' := [(4, .int w7), (3, .int w1), (0, .ref (ah a 0)), (1, .int a1), (2, .int a2)]) hx hb dX0_unmake_39 hl (by decide) rfl (fun ls hl => ?_)
        refine lv_bipush (v := (-9 : Int32)) (pc := 41) hx hb dX0_unmake_41 (by decide) ?_
        refine lv_istore (pc := 43) (lv' := [(5, .int (-9 : Int32)), (4, .int w7), (3, .int w1), (0, .ref (ah a 0)), (1, .int a1), (2, .int a2)]) hx hb dX0_unmake_43 hl (by decide) rfl (fun ls hl => ?_)
        refine lv_iconst (v := (0 : Int32)) (pc := 45) hx hb dX0_unmake_45 (by decide) ?_
        refine lv_istore (pc := 46) (lv' := [(6, .int (0 : Int32)), (5, .int (-9 : Int32)), (4, .int w7), (3, .int w1), (0, .ref (ah a 0)), (1, .int a1), (2, .int a2)]) hx hb dX0_unmake_46 hl (by decide) rfl (fun ls hl => ?_)
        exact h48 bs_fu st w7 (-9 : Int32) (0 : Int32) _ _ _ hH (lv_sub hl [4, 5, 6, 2, 1, 0] rfl) hd
      · have hd := if_n c6 hd
        refine lv_iconst (v := (-1 : Int32)) (pc := 33) hx hb dX0_unmake_33 (by decide) ?_
        exact g_iret (WX ct a ρ) hd S hr hlk hH dX0_unmake_34
section CR_X_unmake
variable {p : Program} {l : Launch} {e : Env} {R : Room} {s : State} {m : MethodId} {args : Array Value} {below : List Frame} {meth : Method} {c : Code} {H : Heap} {locs : List Loc} {cells slots : Nat} {Q : State → Prop}
variable {cc : ByteArray} {pc nL idx : Nat} {ls : Array Slot} {rest : List Value} {lv : List (Nat × Value)} {A : Nat → Prop} {H0 : Heap} {own : String}
theorem call_X_unmake {D : va_G} {ct : Nat → ClassId} {a : XA} {ρ : Option Nat} {st : XS} {a1 : Int32} {a2 : Int32} {z : (XS × Int32)} (S : CallFix p m c cc nL s args lw_all own) (hl : lv_has ls nL lv) (hE : gEX s) (hK : va_K D clA (tysG ct) s) (hH : GH D A (xAs a) H0 (WX ct a ρ st) H locs) (hlk : Cond.methodLink own idx yX0_unmake ∈ lw_all) (hv : X_unmake st a1 a2 = some z) (hR : 8 ≤ R.frames ∧ 216 ≤ R.locals) (hsum : (rest.map fun v => v.category).sum ≤ 8) (hdg : decode cc pc = .ok (.invokevirtual idx, 3)) (hf : cells ≤ R.cells ∧ slots ≤ R.slots)
    (k : ∀ (H1 : Heap) (locs1 : List Loc), GH D A (xAs a) H0 (WX ct a ρ z.1) H1 locs1 → W p l e R s m args below meth c H1 locs1 cells slots Q (F0 m (pc + 3) ls (.int z.2 :: rest))) : W p l e R s m args below meth c H locs cells slots Q (F0 m pc ls (.int a2 :: .int a1 :: .ref (ah a 0) :: rest)) :=
  g_calli (av := [.int a1, .int a2]) S hl gEX_ok hE hK hH (met_X_unmake l D ct a ρ H.size st a1 a2 z hv) (lw_V hlk q756 q757 q69 q758) rfl rfl ⟨rfl, by decide, by decide, by show (parseMethodDescriptor yX0_unmake.desc).map (fun d => d.parameters.length) = some 2; decide +kernel⟩ hR (x_recv hK hH) (fun _ h => Or.inl h) rfl hsum hdg hf k
end CR_X_unmake
/-! CapCouncil.decideAll ()I -/
def X_decideAll_L4 (st : XS) : Nat → Int32 → Int32 → Option Int32
  | 0, _, _ => none
  | n + 1, x1, x2 =>
    if (xi st 2) ≤ x2 then
      (some x1)
    else
      ((X_decides st x2).bind fun v2 =>
      (J9_max (0 : Int32) v2).bind fun v3 =>
      bs_let (x1 + v3) fun w4 =>
      bs_let (x2 + (1 : Int32)) fun w5 =>
      X_decideAll_L4 st n w4 w5)
def X_decideAll (st : XS) : Option Int32 :=
  X_decideAll_L4 st bs_fu (0 : Int32) (0 : Int32)
def rm_X_decideAll : Room := { frames := 7, cells := 0, slots := 0, locals := 190 }
set_option maxHeartbeats 4000000 in
set_option maxRecDepth 100000 in
theorem met_X_decideAll (l : Launch) (D : va_G) (ct : Nat → ClassId) (a : XA) (ρ : Option Nat) (sz : Nat) (st : XS) (z : Int32) (hd : X_decideAll st = some z) : Met l yX0_decideAll (ws_ yX0_decideAll cX0_decideAll 3 (some .int)) rm_X_decideAll (GPre gEX D ct (xAs a) (WX ct a ρ st) sz [.ref (ah a 0)]) (vp_Si (fun r => r = z)) 0 0 (fun _ => False) := by
  refine g_met (cc := cX0_decideAll) (maxL := 3) (ret := (some .int)) (by decide) (Nat.le_of_ble_eq_true rfl) ?_
  intro p e U m args below meth c ls S hr hlk hK hH hE hsz hl
  have S : CallFix p m c cX0_decideAll 3 U args lw_all RX0 := S
  have hx := S.1
  have hb := S.2.1
  have hl : lv_has ls 3 [(0, .ref (ah a 0))] := hl
  have h4 : ∀ (n4 : Nat) (x1 : Int32) (x2 : Int32) (ls : Array Slot), lv_has ls 3 [(0, .ref (ah a 0)), (1, .int x1), (2, .int x2)] → X_decideAll_L4 st n4 x1 x2 = some z → W p l e rm_X_decideAll U m args below meth c U.heap [] 0 0 (MQ below (vp_Si (fun r => r = z)) args U 0 0 (fun _ => False)) (F0 m 4 ls []) := by
    intro n4
    induction n4 with
    | zero =>
      intro x1 x2 ls hl hd
      rw [X_decideAll_L4] at hd
      cases hd
    | succ n4 ih4 =>
      intro x1 x2 ls hl hd
      rw [X_decideAll_L4] at hd
      refine lv_iload_n (pc := 4) hx hb dX0_decideAll_4 rfl (lv_at hl 2 rfl) ?_
      refine lv_aload_n (pc := 5) hx hb dX0_decideAll_5 rfl (lv_at hl 0 rfl) ?_
      refine xg_ringMany (pc := 6) S hK hH dX0_decideAll_6 ?_
      refine lv_icmp_ge (pc := 9) (tgt := 30) hx hb dX0_decideAll_9 (by decide) (fun c1 => ?_) (fun c1 => ?_)
      · have hd := if_t c1 hd
        refine lv_iload_n (pc := 30) hx hb dX0_decideAll_30 rfl (lv_at hl 1 rfl) ?_
        exact r_iret hd S hr hlk dX0_decideAll_31
      · have hd := if_n c1 hd
        refine lv_iload_n (pc := 12) hx hb dX0_decideAll_12 rfl (lv_at hl 1 rfl) ?_
        refine lv_iconst (v := (0 : Int32)) (pc := 13) hx hb dX0_decideAll_13 (by decide) ?_
        refine lv_aload_n (pc := 14) hx hb dX0_decideAll_14 rfl (lv_at hl 0 rfl) ?_
        refine lv_iload_n (pc := 15) hx hb dX0_decideAll_15 rfl (lv_at hl 2 rfl) ?_
        obtain ⟨v2, hv2, hd⟩ := bs_bd hd
        refine call_X_decides (pc := 16) S hl hE hK hH q561 hv2 ⟨Nat.le_of_ble_eq_true rfl, Nat.le_of_ble_eq_true rfl⟩ (Nat.le_of_ble_eq_true rfl) dX0_decideAll_16 ⟨Nat.zero_le _, Nat.zero_le _⟩ ?_
        obtain ⟨v3, hv3, hd⟩ := bs_bd hd
        refine call_J9_max (pc := 19) S hl q739 hv3 ⟨Nat.le_of_ble_eq_true rfl, Nat.le_of_ble_eq_true rfl⟩ (Nat.le_of_ble_eq_true rfl) dX0_decideAll_19 ⟨Nat.zero_le _, Nat.zero_le _⟩ ?_
        refine lv_iadd (pc := 22) hx hb dX0_decideAll_22 ?_
        obtain ⟨w4, ew4, hd⟩ := bs_let_spec hd
        refine lv_topE (pc := 23) ew4 ?_
        refine lv_istore_n (pc := 23) (lv' := [(1, .int w4), (0, .ref (ah a 0)), (2, .int x2)]) hx hb dX0_decideAll_23 rfl hl (by decide) rfl (fun ls hl => ?_)
        obtain ⟨w5, ew5, hd⟩ := bs_let_spec hd
        refine lv_iinc (pc := 24) (v := w5) (lv' := [(2, .int w5), (1, .int w4), (0, .ref (ah a 0))]) hx hb dX0_decideAll_24 hl (k := 2) rfl (by rw [ew5]; rfl) (by decide) rfl (fun ls hl => ?_)
        refine lv_goto (pc := 27) (tgt := 4) hx hb dX0_decideAll_27 (by decide) ?_
        exact ih4 w4 w5 _ (lv_sub hl [2, 1, 0] rfl) hd
  unfold X_decideAll at hd
  refine lv_iconst (v := (0 : Int32)) (pc := 0) hx hb dX0_decideAll_0 (by decide) ?_
  refine lv_istore_n (pc := 1) (lv' := [(1, .int (0 : Int32)), (0, .ref (ah a 0))]) hx hb dX0_decideAll_1 rfl hl (by decide) rfl (fun ls hl => ?_)
  refine lv_iconst (v := (0 : Int32)) (pc := 2) hx hb dX0_decideAll_2 (by decide) ?_
  refine lv_istore_n (pc := 3) (lv' := [(2, .int (0 : Int32)), (1, .int (0 : Int32)), (0, .ref (ah a 0))]) hx hb dX0_decideAll_3 rfl hl (by decide) rfl (fun ls hl => ?_)
  exact h4 bs_fu (0 : Int32) (0 : Int32) _ (lv_sub hl [2, 1, 0] rfl) hd
section CR_X_decideAll
variable {p : Program} {l : Launch} {e : Env} {R : Room} {s : State} {m : MethodId} {args : Array Value} {below : List Frame} {meth : Method} {c : Code} {H : Heap} {locs : List Loc} {cells slots : Nat} {Q : State → Prop}
variable {cc : ByteArray} {pc nL idx : Nat} {ls : Array Slot} {rest : List Value} {lv : List (Nat × Value)} {A : Nat → Prop} {H0 : Heap} {own : String}
theorem call_X_decideAll {D : va_G} {ct : Nat → ClassId} {a : XA} {ρ : Option Nat} {st : XS} {z : Int32} (S : CallFix p m c cc nL s args lw_all own) (hl : lv_has ls nL lv) (hE : gEX s) (hK : va_K D clA (tysG ct) s) (hH : GH D A (xAs a) H0 (WX ct a ρ st) H locs) (hlk : Cond.methodLink own idx yX0_decideAll ∈ lw_all) (hv : X_decideAll st = some z) (hR : 8 ≤ R.frames ∧ 212 ≤ R.locals) (hsum : (rest.map fun v => v.category).sum ≤ 8) (hdg : decode cc pc = .ok (.invokevirtual idx, 3)) (hf : cells ≤ R.cells ∧ slots ≤ R.slots)
    (k : W p l e R s m args below meth c H locs cells slots Q (F0 m (pc + 3) ls (.int z :: rest))) : W p l e R s m args below meth c H locs cells slots Q (F0 m pc ls (.ref (ah a 0) :: rest)) :=
  r_calli (av := []) S hl gEX_ok hE hK hH (met_X_decideAll l D ct a ρ H.size st z hv) (lw_V hlk q765 qs24 q69 q766) rfl rfl ⟨rfl, by decide, by decide, by show (parseMethodDescriptor yX0_decideAll.desc).map (fun d => d.parameters.length) = some 0; decide +kernel⟩ hR (x_recv hK hH) rfl hsum hdg hf k
end CR_X_decideAll
/-! CapCouncil.sway (I)I -/
def X_sway_J77 (k33 : XS → Int32 → Int32 → Int32 → Option (XS × Int32)) (a1 : Int32) (st : XS) (x2 : Int32) (x3 : Int32) (x4 : Int32) (y0 : Int32) : Option (XS × Int32) :=
  if y0 = 0 then
    (bs_let (x4 + (1 : Int32)) fun w16 =>
    k33 st x2 x3 w16)
  else
    ((X_decideAll st).bind fun v17 =>
    if v17 = a1 then
      (bs_let (x4 + (1 : Int32)) fun w20 =>
      k33 st x2 x4 w20)
    else
      (bs_let (x4 + (1 : Int32)) fun w19 =>
      k33 st x2 x3 w19))
def X_sway_L33 (k105 : XS → Int32 → Int32 → Option (XS × Int32)) (a1 : Int32) : Nat → XS → Int32 → Int32 → Int32 → Option (XS × Int32)
  | 0, _, _, _, _ => none
  | n + 1, st, x2, x3, x4 =>
    if ((1 : Int32) <<< ((xi st 2) &&& 31)) ≤ x4 then
      (k105 st x2 x3)
    else
      (bs_let (sxi st 8 x4) fun s6 =>
      if x3 = (-9 : Int32) then
        (X_sway_J77 (X_sway_L33 k105 a1 n) a1 s6 x2 x3 x4 (1 : Int32))
      else
        ((J11_bitCount (x4 ^^^ x2)).bind fun v8 =>
        (J11_bitCount (x3 ^^^ x2)).bind fun v9 =>
        if v9 ≤ v8 then
          (X_sway_J77 (X_sway_L33 k105 a1 n) a1 s6 x2 x3 x4 (0 : Int32))
        else
          (X_sway_J77 (X_sway_L33 k105 a1 n) a1 s6 x2 x3 x4 (1 : Int32))))
def X_sway_J105 (a1 : Int32) (st : XS) (x2 : Int32) (x3 : Int32) : Option (XS × Int32) :=
  bs_let (sxi st 8 x2) fun s11 =>
  if x3 = (-9 : Int32) then
    (some (s11, (-9 : Int32)))
  else
    ((J11_bitCount (x3 ^^^ x2)).bind fun v13 =>
    (X_ask s11 x3 v13).bind fun q14 =>
    some (q14.1, q14.2))
def X_sway (st : XS) (a1 : Int32) : Option (XS × Int32) :=
  (X_isIn a1 (0 : Int32) (45 : Int32)).bind fun v1 =>
  if v1 = 0 then
    (some (st, (-1 : Int32)))
  else
    (if (xi st 2) = 0 then
      (some (st, (-4 : Int32)))
    else
      (bs_let (xi st 8) fun w4 =>
      X_sway_L33 (X_sway_J105 a1) a1 bs_fu st w4 (-9 : Int32) (0 : Int32)))
def rm_X_sway : Room := { frames := 8, cells := 0, slots := 0, locals := 212 }
set_option maxHeartbeats 4000000 in
set_option maxRecDepth 100000 in
theorem met_X_sway (l : Launch) (D : va_G) (ct : Nat → ClassId) (a : XA) (ρ : Option Nat) (sz : Nat) (st : XS) (a1 : Int32) (z : (XS × Int32)) (hd : X_sway st a1 = some z) : Met l yX0_sway (ws_ yX0_sway cX0_sway 6 (some .int)) rm_X_sway (GPre gEX D ct (xAs a) (WX ct a ρ st) sz [.ref (ah a 0), .int a1]) (GQi D (xAs a) (xAs a) (WX ct a ρ z.1) sz z.2) 0 0 (gA (xAs a) sz) := by
  refine g_met (cc := cX0_sway) (maxL := 6) (ret := (some .int)) (by decide) (Nat.le_of_ble_eq_true rfl) ?_
  intro p e U m args below meth c ls S hr hlk hK hH hE hsz hl
  have S : CallFix p m c cX0_sway 6 U args lw_all RX0 := S
  have hx := S.1
  have hb := S.2.1
  have hl : lv_has ls 6 [(0, .ref (ah a 0)), (1, .int a1)] := hl
  have h105 : ∀ (st : XS) (x2 : Int32) (x3 : Int32) (H : Heap) (locs : List Loc) (ls : Array Slot), GH D (gA (xAs a) sz) (xAs a) U.heap (WX ct a ρ st) H locs → lv_has ls 6 [(0, .ref (ah a 0)), (1, .int a1), (2, .int x2), (3, .int x3)] → X_sway_J105 a1 st x2 x3 = some z → W p l e rm_X_sway U m args below meth c H locs 0 0 (MQ below (GQi D (xAs a) (xAs a) (WX ct a ρ z.1) sz z.2) args U 0 0 (gA (xAs a) sz)) (F0 m 105 ls []) := by
    intro st x2 x3 H locs ls hH hl hd
    unfold X_sway_J105 at hd
    refine lv_aload_n (pc := 105) hx hb dX0_sway_105 rfl (lv_at hl 0 rfl) ?_
    refine lv_iload_n (pc := 106) hx hb dX0_sway_106 rfl (lv_at hl 2 rfl) ?_
    obtain ⟨s11, es11, hd⟩ := bs_let_spec hd
    refine xp_up (pc := 107) S hK hH dX0_sway_107 es11 (fun H locs hH => ?_)
    refine lv_iload_n (pc := 110) hx hb dX0_sway_110 rfl (lv_at hl 3 rfl) ?_
    refine lv_bipush (v := (-9 : Int32)) (pc := 111) hx hb dX0_sway_111 (by decide) ?_
    refine lv_icmp_ne (pc := 113) (tgt := 121) hx hb dX0_sway_113 (by decide) (fun c12 => ?_) (fun c12 => ?_)
    · have hd := if_n c12 hd
      refine lv_aload_n (pc := 121) hx hb dX0_sway_121 rfl (lv_at hl 0 rfl) ?_
      refine lv_iload_n (pc := 122) hx hb dX0_sway_122 rfl (lv_at hl 3 rfl) ?_
      refine lv_iload_n (pc := 123) hx hb dX0_sway_123 rfl (lv_at hl 3 rfl) ?_
      refine lv_iload_n (pc := 124) hx hb dX0_sway_124 rfl (lv_at hl 2 rfl) ?_
      refine lv_ixor (pc := 125) hx hb dX0_sway_125 ?_
      obtain ⟨v13, hv13, hd⟩ := bs_bd hd
      refine call_J11_bitCount (pc := 126) S hl q669 hv13 ⟨Nat.le_of_ble_eq_true rfl, Nat.le_of_ble_eq_true rfl⟩ (Nat.le_of_ble_eq_true rfl) dX0_sway_126 ⟨Nat.zero_le _, Nat.zero_le _⟩ ?_
      obtain ⟨q14, hq14, hd⟩ := bs_bd hd
      refine call_X_ask (pc := 129) S hl hE hK hH q344 hq14 ⟨Nat.le_of_ble_eq_true rfl, Nat.le_of_ble_eq_true rfl⟩ (Nat.le_of_ble_eq_true rfl) dX0_sway_129 ⟨Nat.zero_le _, Nat.zero_le _⟩ (fun H locs hH => ?_)
      exact g_iret (WX ct a ρ) hd S hr hlk hH dX0_sway_132
    · have hd := if_t c12 hd
      refine lv_bipush (v := (-9 : Int32)) (pc := 116) hx hb dX0_sway_116 (by decide) ?_
      refine lv_goto (pc := 118) (tgt := 132) hx hb dX0_sway_118 (by decide) ?_
      exact g_iret (WX ct a ρ) hd S hr hlk hH dX0_sway_132
  have h33 : ∀ (n33 : Nat) (st : XS) (x2 : Int32) (x3 : Int32) (x4 : Int32) (H : Heap) (locs : List Loc) (ls : Array Slot), GH D (gA (xAs a) sz) (xAs a) U.heap (WX ct a ρ st) H locs → lv_has ls 6 [(0, .ref (ah a 0)), (1, .int a1), (2, .int x2), (3, .int x3), (4, .int x4)] → X_sway_L33 (X_sway_J105 a1) a1 n33 st x2 x3 x4 = some z → W p l e rm_X_sway U m args below meth c H locs 0 0 (MQ below (GQi D (xAs a) (xAs a) (WX ct a ρ z.1) sz z.2) args U 0 0 (gA (xAs a) sz)) (F0 m 33 ls []) := by
    intro n33
    induction n33 with
    | zero =>
      intro st x2 x3 x4 H locs ls hH hl hd
      rw [X_sway_L33] at hd
      cases hd
    | succ n33 ih33 =>
      have h77 : ∀ (st : XS) (x2 : Int32) (x3 : Int32) (x4 : Int32) (y0 : Int32) (H : Heap) (locs : List Loc) (ls : Array Slot), GH D (gA (xAs a) sz) (xAs a) U.heap (WX ct a ρ st) H locs → lv_has ls 6 [(0, .ref (ah a 0)), (1, .int a1), (2, .int x2), (3, .int x3), (4, .int x4)] → X_sway_J77 (X_sway_L33 (X_sway_J105 a1) a1 n33) a1 st x2 x3 x4 y0 = some z → W p l e rm_X_sway U m args below meth c H locs 0 0 (MQ below (GQi D (xAs a) (xAs a) (WX ct a ρ z.1) sz z.2) args U 0 0 (gA (xAs a) sz)) (F0 m 77 ls [.int y0]) := by
        intro st x2 x3 x4 y0 H locs ls hH hl hd
        unfold X_sway_J77 at hd
        refine lv_istore (pc := 77) (lv' := [(5, .int y0), (0, .ref (ah a 0)), (1, .int a1), (2, .int x2), (3, .int x3), (4, .int x4)]) hx hb dX0_sway_77 hl (by decide) rfl (fun ls hl => ?_)
        refine lv_iload (pc := 79) hx hb dX0_sway_79 (lv_at hl 0 rfl) ?_
        refine lv_if_eq (pc := 81) (tgt := 97) hx hb dX0_sway_81 (by decide) (fun c15 => ?_) (fun c15 => ?_)
        · have hd := if_t c15 hd
          refine lv_iload_n (pc := 97) hx hb dX0_sway_97 rfl (lv_at hl 4 rfl) ?_
          refine lv_istore_n (pc := 98) (lv' := [(3, .int x3), (5, .int y0), (0, .ref (ah a 0)), (1, .int a1), (2, .int x2), (4, .int x4)]) hx hb dX0_sway_98 rfl hl (by decide) rfl (fun ls hl => ?_)
          obtain ⟨w16, ew16, hd⟩ := bs_let_spec hd
          refine lv_iinc (pc := 99) (v := w16) (lv' := [(4, .int w16), (3, .int x3), (5, .int y0), (0, .ref (ah a 0)), (1, .int a1), (2, .int x2)]) hx hb dX0_sway_99 hl (k := 5) rfl (by rw [ew16]; rfl) (by decide) rfl (fun ls hl => ?_)
          refine lv_goto (pc := 102) (tgt := 33) hx hb dX0_sway_102 (by decide) ?_
          exact ih33 st x2 x3 w16 _ _ _ hH (lv_sub hl [3, 4, 5, 1, 0] rfl) hd
        · have hd := if_n c15 hd
          refine lv_aload_n (pc := 84) hx hb dX0_sway_84 rfl (lv_at hl 1 rfl) ?_
          obtain ⟨v17, hv17, hd⟩ := bs_bd hd
          refine call_X_decideAll (pc := 85) S hl hE hK hH q763 hv17 ⟨Nat.le_of_ble_eq_true rfl, Nat.le_of_ble_eq_true rfl⟩ (Nat.le_of_ble_eq_true rfl) dX0_sway_85 ⟨Nat.zero_le _, Nat.zero_le _⟩ ?_
          refine lv_iload_n (pc := 88) hx hb dX0_sway_88 rfl (lv_at hl 2 rfl) ?_
          refine lv_icmp_ne (pc := 89) (tgt := 97) hx hb dX0_sway_89 (by decide) (fun c18 => ?_) (fun c18 => ?_)
          · have hd := if_n c18 hd
            refine lv_iload_n (pc := 97) hx hb dX0_sway_97 rfl (lv_at hl 4 rfl) ?_
            refine lv_istore_n (pc := 98) (lv' := [(3, .int x3), (5, .int y0), (0, .ref (ah a 0)), (1, .int a1), (2, .int x2), (4, .int x4)]) hx hb dX0_sway_98 rfl hl (by decide) rfl (fun ls hl => ?_)
            obtain ⟨w19, ew19, hd⟩ := bs_let_spec hd
            refine lv_iinc (pc := 99) (v := w19) (lv' := [(4, .int w19), (3, .int x3), (5, .int y0), (0, .ref (ah a 0)), (1, .int a1), (2, .int x2)]) hx hb dX0_sway_99 hl (k := 5) rfl (by rw [ew19]; rfl) (by decide) rfl (fun ls hl => ?_)
            refine lv_goto (pc := 102) (tgt := 33) hx hb dX0_sway_102 (by decide) ?_
            exact ih33 st x2 x3 w19 _ _ _ hH (lv_sub hl [3, 4, 5, 1, 0] rfl) hd
          · have hd := if_t c18 hd
            refine lv_iload (pc := 92) hx hb dX0_sway_92 (lv_at hl 5 rfl) ?_
            refine lv_goto (pc := 94) (tgt := 98) hx hb dX0_sway_94 (by decide) ?_
            refine lv_istore_n (pc := 98) (lv' := [(3, .int x4), (5, .int y0), (0, .ref (ah a 0)), (1, .int a1), (2, .int x2), (4, .int x4)]) hx hb dX0_sway_98 rfl hl (by decide) rfl (fun ls hl => ?_)
            obtain ⟨w20, ew20, hd⟩ := bs_let_spec hd
            refine lv_iinc (pc := 99) (v := w20) (lv' := [(4, .int w20), (3, .int x4), (5, .int y0), (0, .ref (ah a 0)), (1, .int a1), (2, .int x2)]) hx hb dX0_sway_99 hl (k := 5) rfl (by rw [ew20]; rfl) (by decide) rfl (fun ls hl => ?_)
            refine lv_goto (pc := 102) (tgt := 33) hx hb dX0_sway_102 (by decide) ?_
            exact ih33 st x2 x4 w20 _ _ _ hH (lv_sub hl [3, 4, 5, 1, 0] rfl) hd
      intro st x2 x3 x4 H locs ls hH hl hd
      rw [X_sway_L33] at hd
      refine lv_iload (pc := 33) hx hb dX0_sway_33 (lv_at hl 4 rfl) ?_
      refine lv_iconst (v := (1 : Int32)) (pc := 35) hx hb dX0_sway_35 (by decide) ?_
      refine lv_aload_n (pc := 36) hx hb dX0_sway_36 rfl (lv_at hl 0 rfl) ?_
      refine xg_ringMany (pc := 37) S hK hH dX0_sway_37 ?_
      refine lv_ishl (pc := 40) hx hb dX0_sway_40 ?_
      refine lv_icmp_ge (pc := 41) (tgt := 105) hx hb dX0_sway_41 (by decide) (fun c5 => ?_) (fun c5 => ?_)
      · have hd := if_t c5 hd
        exact h105 st x2 x3 _ _ _ hH (lv_sub hl [0, 1, 2, 3] rfl) hd
      · have hd := if_n c5 hd
        refine lv_aload_n (pc := 44) hx hb dX0_sway_44 rfl (lv_at hl 0 rfl) ?_
        refine lv_iload (pc := 45) hx hb dX0_sway_45 (lv_at hl 4 rfl) ?_
        obtain ⟨s6, es6, hd⟩ := bs_let_spec hd
        refine xp_up (pc := 47) S hK hH dX0_sway_47 es6 (fun H locs hH => ?_)
        refine lv_iload_n (pc := 50) hx hb dX0_sway_50 rfl (lv_at hl 3 rfl) ?_
        refine lv_bipush (v := (-9 : Int32)) (pc := 51) hx hb dX0_sway_51 (by decide) ?_
        refine lv_icmp_eq (pc := 53) (tgt := 72) hx hb dX0_sway_53 (by decide) (fun c7 => ?_) (fun c7 => ?_)
        · have hd := if_t c7 hd
          refine lv_iconst (v := (1 : Int32)) (pc := 72) hx hb dX0_sway_72 (by decide) ?_
          refine lv_goto (pc := 73) (tgt := 77) hx hb dX0_sway_73 (by decide) ?_
          exact h77 s6 x2 x3 x4 (1 : Int32) _ _ _ hH (lv_sub hl [0, 1, 2, 3, 4] rfl) hd
        · have hd := if_n c7 hd
          refine lv_iload (pc := 56) hx hb dX0_sway_56 (lv_at hl 4 rfl) ?_
          refine lv_iload_n (pc := 58) hx hb dX0_sway_58 rfl (lv_at hl 2 rfl) ?_
          refine lv_ixor (pc := 59) hx hb dX0_sway_59 ?_
          obtain ⟨v8, hv8, hd⟩ := bs_bd hd
          refine call_J11_bitCount (pc := 60) S hl q669 hv8 ⟨Nat.le_of_ble_eq_true rfl, Nat.le_of_ble_eq_true rfl⟩ (Nat.le_of_ble_eq_true rfl) dX0_sway_60 ⟨Nat.zero_le _, Nat.zero_le _⟩ ?_
          refine lv_iload_n (pc := 63) hx hb dX0_sway_63 rfl (lv_at hl 3 rfl) ?_
          refine lv_iload_n (pc := 64) hx hb dX0_sway_64 rfl (lv_at hl 2 rfl) ?_
          refine lv_ixor (pc := 65) hx hb dX0_sway_65 ?_
          obtain ⟨v9, hv9, hd⟩ := bs_bd hd
          refine call_J11_bitCount (pc := 66) S hl q669 hv9 ⟨Nat.le_of_ble_eq_true rfl, Nat.le_of_ble_eq_true rfl⟩ (Nat.le_of_ble_eq_true rfl) dX0_sway_66 ⟨Nat.zero_le _, Nat.zero_le _⟩ ?_
          refine lv_icmp_ge (pc := 69) (tgt := 76) hx hb dX0_sway_69 (by decide) (fun c10 => ?_) (fun c10 => ?_)
          · have hd := if_t c10 hd
            refine lv_iconst (v := (0 : Int32)) (pc := 76) hx hb dX0_sway_76 (by decide) ?_
            exact h77 s6 x2 x3 x4 (0 : Int32) _ _ _ hH (lv_sub hl [0, 1, 2, 3, 4] rfl) hd
          · have hd := if_n c10 hd
            refine lv_iconst (v := (1 : Int32)) (pc := 72) hx hb dX0_sway_72 (by decide) ?_
            refine lv_goto (pc := 73) (tgt := 77) hx hb dX0_sway_73 (by decide) ?_
            exact h77 s6 x2 x3 x4 (1 : Int32) _ _ _ hH (lv_sub hl [0, 1, 2, 3, 4] rfl) hd
  unfold X_sway at hd
  refine lv_iload_n (pc := 0) hx hb dX0_sway_0 rfl (lv_at hl 1 rfl) ?_
  refine lv_iconst (v := (0 : Int32)) (pc := 1) hx hb dX0_sway_1 (by decide) ?_
  refine lv_bipush (v := (45 : Int32)) (pc := 2) hx hb dX0_sway_2 (by decide) ?_
  obtain ⟨v1, hv1, hd⟩ := bs_bd hd
  refine call_X_isIn (pc := 4) S hl q285 hv1 ⟨Nat.le_of_ble_eq_true rfl, Nat.le_of_ble_eq_true rfl⟩ (Nat.le_of_ble_eq_true rfl) dX0_sway_4 ⟨Nat.zero_le _, Nat.zero_le _⟩ ?_
  refine lv_if_ne (pc := 7) (tgt := 12) hx hb dX0_sway_7 (by decide) (fun c2 => ?_) (fun c2 => ?_)
  · have hd := if_n c2 hd
    refine lv_aload_n (pc := 12) hx hb dX0_sway_12 rfl (lv_at hl 0 rfl) ?_
    refine xg_ringMany (pc := 13) S hK hH dX0_sway_13 ?_
    refine lv_if_ne (pc := 16) (tgt := 22) hx hb dX0_sway_16 (by decide) (fun c3 => ?_) (fun c3 => ?_)
    · have hd := if_n c3 hd
      refine lv_aload_n (pc := 22) hx hb dX0_sway_22 rfl (lv_at hl 0 rfl) ?_
      refine xg_up (pc := 23) S hK hH dX0_sway_23 ?_
      obtain ⟨w4, ew4, hd⟩ := bs_let_spec hd
      refine lv_topE (pc := 26) ew4 ?_
      refine lv_istore_n (pc := 26) (lv' := [(2, .int w4), (0, .ref (ah a 0)), (1, .int a1)]) hx hb dX0_sway_26 rfl hl (by decide) rfl (fun ls hl => ?_)
      refine lv_bipush (v := (-9 : Int32)) (pc := 27) hx hb dX0_sway_27 (by decide) ?_
      refine lv_istore_n (pc := 29) (lv' := [(3, .int (-9 : Int32)), (2, .int w4), (0, .ref (ah a 0)), (1, .int a1)]) hx hb dX0_sway_29 rfl hl (by decide) rfl (fun ls hl => ?_)
      refine lv_iconst (v := (0 : Int32)) (pc := 30) hx hb dX0_sway_30 (by decide) ?_
      refine lv_istore (pc := 31) (lv' := [(4, .int (0 : Int32)), (3, .int (-9 : Int32)), (2, .int w4), (0, .ref (ah a 0)), (1, .int a1)]) hx hb dX0_sway_31 hl (by decide) rfl (fun ls hl => ?_)
      exact h33 bs_fu st w4 (-9 : Int32) (0 : Int32) _ _ _ hH (lv_sub hl [3, 4, 2, 1, 0] rfl) hd
    · have hd := if_t c3 hd
      refine lv_bipush (v := (-4 : Int32)) (pc := 19) hx hb dX0_sway_19 (by decide) ?_
      exact g_iret (WX ct a ρ) hd S hr hlk hH dX0_sway_21
  · have hd := if_t c2 hd
    refine lv_iconst (v := (-1 : Int32)) (pc := 10) hx hb dX0_sway_10 (by decide) ?_
    exact g_iret (WX ct a ρ) hd S hr hlk hH dX0_sway_11
section CR_X_sway
variable {p : Program} {l : Launch} {e : Env} {R : Room} {s : State} {m : MethodId} {args : Array Value} {below : List Frame} {meth : Method} {c : Code} {H : Heap} {locs : List Loc} {cells slots : Nat} {Q : State → Prop}
variable {cc : ByteArray} {pc nL idx : Nat} {ls : Array Slot} {rest : List Value} {lv : List (Nat × Value)} {A : Nat → Prop} {H0 : Heap} {own : String}
theorem call_X_sway {D : va_G} {ct : Nat → ClassId} {a : XA} {ρ : Option Nat} {st : XS} {a1 : Int32} {z : (XS × Int32)} (S : CallFix p m c cc nL s args lw_all own) (hl : lv_has ls nL lv) (hE : gEX s) (hK : va_K D clA (tysG ct) s) (hH : GH D A (xAs a) H0 (WX ct a ρ st) H locs) (hlk : Cond.methodLink own idx yX0_sway ∈ lw_all) (hv : X_sway st a1 = some z) (hR : 9 ≤ R.frames ∧ 237 ≤ R.locals) (hsum : (rest.map fun v => v.category).sum ≤ 8) (hdg : decode cc pc = .ok (.invokevirtual idx, 3)) (hf : cells ≤ R.cells ∧ slots ≤ R.slots)
    (k : ∀ (H1 : Heap) (locs1 : List Loc), GH D A (xAs a) H0 (WX ct a ρ z.1) H1 locs1 → W p l e R s m args below meth c H1 locs1 cells slots Q (F0 m (pc + 3) ls (.int z.2 :: rest))) : W p l e R s m args below meth c H locs cells slots Q (F0 m pc ls (.int a1 :: .ref (ah a 0) :: rest)) :=
  g_calli (av := [.int a1]) S hl gEX_ok hE hK hH (met_X_sway l D ct a ρ H.size st a1 z hv) (lw_V hlk q760 q761 q69 q762) rfl rfl ⟨rfl, by decide, by decide, by show (parseMethodDescriptor yX0_sway.desc).map (fun d => d.parameters.length) = some 1; decide +kernel⟩ hR (x_recv hK hH) (fun _ h => Or.inl h) rfl hsum hdg hf k
end CR_X_sway
