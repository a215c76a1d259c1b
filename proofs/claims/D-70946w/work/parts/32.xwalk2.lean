set_option maxRecDepth 100000
/-! CapCouncil.askedCells (II)I -/
def X_askedCells_L55 (k86 : XS → Option (XS × Int32)) (a1 : Int32) (a2 : Int32) : Nat → XS → Nat → Int32 → Option (XS × Int32)
  | 0, _, _, _ => none
  | n + 1, st, j3, x4 =>
    (xrn st j3).bind fun v12 =>
    if v12 ≤ x4 then
      (some (st, (0 : Int32)))
    else
      ((xrl st j3 x4).bind fun v14 =>
      (X_isCell v14).bind fun v15 =>
      if v15 = 0 then
        (k86 st)
      else
        ((xrl st j3 (x4 + (1 : Int32))).bind fun v17 =>
        (X_isIn v17 (0 : Int32) (1 : Int32)).bind fun v18 =>
        if v18 = 0 then
          (k86 st)
        else
          (bs_let (x4 + (2 : Int32)) fun w20 =>
          X_askedCells_L55 k86 a1 a2 n st j3 w20)))
def X_askedCells_J86 (a1 : Int32) (a2 : Int32) (st : XS) : Option (XS × Int32) :=
  (X_found st (3 : Int32)).bind fun q21 =>
  some (q21.1, q21.2)
def X_askedCells (st : XS) (a1 : Int32) (a2 : Int32) : Option (XS × Int32) :=
  (X_isRing st a1).bind fun v1 =>
  if v1 = 0 then
    (some (st, (-1 : Int32)))
  else
    ((X_isRow a2).bind fun v3 =>
    if v3 = 0 then
      (some (st, (-1 : Int32)))
    else
      ((bs_ix 6 a2).bind fun v5 =>
      if (xr st v5).isSome = true then
        ((bs_ix 6 a2).bind fun v7 =>
        (xrn st v7).bind fun v8 =>
        if (v8 - v8 / (2 : Int32) * (2 : Int32)) = 0 then
          (X_askedCells_L55 (X_askedCells_J86 a1 a2) a1 a2 bs_fu st v7 (0 : Int32))
        else
          ((X_found st (5 : Int32)).bind fun q10 =>
          some (q10.1, q10.2)))
      else
        ((X_found st (1 : Int32)).bind fun q11 =>
        some (q11.1, q11.2))))
def rm_X_askedCells : Room := { frames := 2, cells := 0, slots := 0, locals := 43 }
set_option maxHeartbeats 4000000 in
set_option maxRecDepth 100000 in
theorem met_X_askedCells (l : Launch) (D : va_G) (ct : Nat → ClassId) (a : XA) (ρ : Option Nat) (sz : Nat) (st : XS) (a1 : Int32) (a2 : Int32) (z : (XS × Int32)) (hd : X_askedCells st a1 a2 = some z) : Met l yX0_askedCells (ws_ yX0_askedCells cX0_askedCells 5 (some .int)) rm_X_askedCells (GPre gEX D ct (xAs a) (WX ct a ρ st) sz [.ref (ah a 0), .int a1, .int a2]) (GQi D (xAs a) (xAs a) (WX ct a ρ z.1) sz z.2) 0 0 (gA (xAs a) sz) := by
  refine g_met (cc := cX0_askedCells) (maxL := 5) (ret := (some .int)) (by decide) (Nat.le_of_ble_eq_true rfl) ?_
  intro p e U m args below meth c ls S hr hlk hK hH hE hsz hl
  have S : CallFix p m c cX0_askedCells 5 U args lw_all RX0 := S
  have hx := S.1
  have hb := S.2.1
  have hl : lv_has ls 5 [(0, .ref (ah a 0)), (1, .int a1), (2, .int a2)] := hl
  have h86 : ∀ (st : XS) (H : Heap) (locs : List Loc) (ls : Array Slot), GH D (gA (xAs a) sz) (xAs a) U.heap (WX ct a ρ st) H locs → lv_has ls 5 [(0, .ref (ah a 0)), (1, .int a1), (2, .int a2)] → X_askedCells_J86 a1 a2 st = some z → W p l e rm_X_askedCells U m args below meth c H locs 0 0 (MQ below (GQi D (xAs a) (xAs a) (WX ct a ρ z.1) sz z.2) args U 0 0 (gA (xAs a) sz)) (F0 m 86 ls []) := by
    intro st H locs ls hH hl hd
    unfold X_askedCells_J86 at hd
    refine lv_aload_n (pc := 86) hx hb dX0_askedCells_86 rfl (lv_at hl 0 rfl) ?_
    refine lv_iconst (v := (3 : Int32)) (pc := 87) hx hb dX0_askedCells_87 (by decide) ?_
    obtain ⟨q21, hq21, hd⟩ := bs_bd hd
    refine call_X_found (pc := 88) S hl hE hK hH q288 hq21 ⟨Nat.le_of_ble_eq_true rfl, Nat.le_of_ble_eq_true rfl⟩ (Nat.le_of_ble_eq_true rfl) dX0_askedCells_88 ⟨Nat.zero_le _, Nat.zero_le _⟩ (fun H locs hH => ?_)
    exact g_iret (WX ct a ρ) hd S hr hlk hH dX0_askedCells_91
  have h55 : ∀ (n55 : Nat) (st : XS) (j3 : Nat) (hj3 : j3 < 6) (x4 : Int32) (H : Heap) (locs : List Loc) (ls : Array Slot), GH D (gA (xAs a) sz) (xAs a) U.heap (WX ct a ρ st) H locs → lv_has ls 5 [(0, .ref (ah a 0)), (1, .int a1), (2, .int a2), (3, va_rf (ar a j3)), (4, .int x4)] → X_askedCells_L55 (X_askedCells_J86 a1 a2) a1 a2 n55 st j3 x4 = some z → W p l e rm_X_askedCells U m args below meth c H locs 0 0 (MQ below (GQi D (xAs a) (xAs a) (WX ct a ρ z.1) sz z.2) args U 0 0 (gA (xAs a) sz)) (F0 m 55 ls []) := by
    intro n55
    induction n55 with
    | zero =>
      intro st j3 hj3 x4 H locs ls hH hl hd
      rw [X_askedCells_L55] at hd
      cases hd
    | succ n55 ih55 =>
      intro st j3 hj3 x4 H locs ls hH hl hd
      rw [X_askedCells_L55] at hd
      refine lv_iload (pc := 55) hx hb dX0_askedCells_55 (lv_at hl 4 rfl) ?_
      refine lv_aload_nO (pc := 57) hx hb dX0_askedCells_57 rfl (lv_at hl 3 rfl) ?_
      obtain ⟨v12, hv12, hd⟩ := bs_bd hd
      refine xr_len (pc := 58) (j := j3) S hK hH (Nat.lt_of_lt_of_le hj3 (by decide)) hv12 dX0_askedCells_58 ?_
      refine lv_icmp_ge (pc := 59) (tgt := 98) hx hb dX0_askedCells_59 (by decide) (fun c13 => ?_) (fun c13 => ?_)
      · have hd := if_t c13 hd
        refine lv_iconst (v := (0 : Int32)) (pc := 98) hx hb dX0_askedCells_98 (by decide) ?_
        exact g_iret (WX ct a ρ) hd S hr hlk hH dX0_askedCells_99
      · have hd := if_n c13 hd
        refine lv_aload_nO (pc := 62) hx hb dX0_askedCells_62 rfl (lv_at hl 3 rfl) ?_
        refine lv_iload (pc := 63) hx hb dX0_askedCells_63 (lv_at hl 4 rfl) ?_
        obtain ⟨v14, hv14, hd⟩ := bs_bd hd
        refine xr_ild (pc := 65) S hK hH hj3 hv14 dX0_askedCells_65 ?_
        obtain ⟨v15, hv15, hd⟩ := bs_bd hd
        refine call_X_isCell (pc := 66) S hl q650 hv15 ⟨Nat.le_of_ble_eq_true rfl, Nat.le_of_ble_eq_true rfl⟩ (Nat.le_of_ble_eq_true rfl) dX0_askedCells_66 ⟨Nat.zero_le _, Nat.zero_le _⟩ ?_
        refine lv_if_eq (pc := 69) (tgt := 86) hx hb dX0_askedCells_69 (by decide) (fun c16 => ?_) (fun c16 => ?_)
        · have hd := if_t c16 hd
          exact h86 st _ _ _ hH (lv_sub hl [0, 1, 2] rfl) hd
        · have hd := if_n c16 hd
          refine lv_aload_nO (pc := 72) hx hb dX0_askedCells_72 rfl (lv_at hl 3 rfl) ?_
          refine lv_iload (pc := 73) hx hb dX0_askedCells_73 (lv_at hl 4 rfl) ?_
          refine lv_iconst (v := (1 : Int32)) (pc := 75) hx hb dX0_askedCells_75 (by decide) ?_
          refine lv_iadd (pc := 76) hx hb dX0_askedCells_76 ?_
          obtain ⟨v17, hv17, hd⟩ := bs_bd hd
          refine xr_ild (pc := 77) S hK hH hj3 hv17 dX0_askedCells_77 ?_
          refine lv_iconst (v := (0 : Int32)) (pc := 78) hx hb dX0_askedCells_78 (by decide) ?_
          refine lv_iconst (v := (1 : Int32)) (pc := 79) hx hb dX0_askedCells_79 (by decide) ?_
          obtain ⟨v18, hv18, hd⟩ := bs_bd hd
          refine call_X_isIn (pc := 80) S hl q285 hv18 ⟨Nat.le_of_ble_eq_true rfl, Nat.le_of_ble_eq_true rfl⟩ (Nat.le_of_ble_eq_true rfl) dX0_askedCells_80 ⟨Nat.zero_le _, Nat.zero_le _⟩ ?_
          refine lv_if_ne (pc := 83) (tgt := 92) hx hb dX0_askedCells_83 (by decide) (fun c19 => ?_) (fun c19 => ?_)
          · have hd := if_n c19 hd
            obtain ⟨w20, ew20, hd⟩ := bs_let_spec hd
            refine lv_iinc (pc := 92) (v := w20) (lv' := [(4, .int w20), (0, .ref (ah a 0)), (1, .int a1), (2, .int a2), (3, va_rf (ar a j3))]) hx hb dX0_askedCells_92 hl (k := 4) rfl (by rw [ew20]; rfl) (by decide) (by simp [va_rf_cat, vc_int, vc_ref, vc_long]) (fun ls hl => ?_)
            refine lv_goto (pc := 95) (tgt := 55) hx hb dX0_askedCells_95 (by decide) ?_
            exact ih55 st j3 hj3 w20 _ _ _ hH (lv_sub hl [1, 2, 3, 4, 0] rfl) hd
          · have hd := if_t c19 hd
            exact h86 st _ _ _ hH (lv_sub hl [0, 1, 2] rfl) hd
  unfold X_askedCells at hd
  refine lv_aload_n (pc := 0) hx hb dX0_askedCells_0 rfl (lv_at hl 0 rfl) ?_
  refine lv_iload_n (pc := 1) hx hb dX0_askedCells_1 rfl (lv_at hl 1 rfl) ?_
  obtain ⟨v1, hv1, hd⟩ := bs_bd hd
  refine call_X_isRing (pc := 2) S hl hE hK hH q481 hv1 ⟨Nat.le_of_ble_eq_true rfl, Nat.le_of_ble_eq_true rfl⟩ (Nat.le_of_ble_eq_true rfl) dX0_askedCells_2 ⟨Nat.zero_le _, Nat.zero_le _⟩ ?_
  refine lv_if_eq (pc := 5) (tgt := 15) hx hb dX0_askedCells_5 (by decide) (fun c2 => ?_) (fun c2 => ?_)
  · have hd := if_t c2 hd
    refine lv_iconst (v := (-1 : Int32)) (pc := 15) hx hb dX0_askedCells_15 (by decide) ?_
    exact g_iret (WX ct a ρ) hd S hr hlk hH dX0_askedCells_16
  · have hd := if_n c2 hd
    refine lv_iload_n (pc := 8) hx hb dX0_askedCells_8 rfl (lv_at hl 2 rfl) ?_
    obtain ⟨v3, hv3, hd⟩ := bs_bd hd
    refine call_X_isRow (pc := 9) S hl q282 hv3 ⟨Nat.le_of_ble_eq_true rfl, Nat.le_of_ble_eq_true rfl⟩ (Nat.le_of_ble_eq_true rfl) dX0_askedCells_9 ⟨Nat.zero_le _, Nat.zero_le _⟩ ?_
    refine lv_if_ne (pc := 12) (tgt := 17) hx hb dX0_askedCells_12 (by decide) (fun c4 => ?_) (fun c4 => ?_)
    · have hd := if_n c4 hd
      refine lv_aload_n (pc := 17) hx hb dX0_askedCells_17 rfl (lv_at hl 0 rfl) ?_
      refine xg_rows (pc := 18) S hK hH dX0_askedCells_18 ?_
      refine lv_iload_n (pc := 21) hx hb dX0_askedCells_21 rfl (lv_at hl 2 rfl) ?_
      obtain ⟨v5, hv5, hd⟩ := bs_bd hd
      refine xq_rows (pc := 22) S hK hH hv5 dX0_askedCells_22 ?_
      refine lv_ifnonnullO (pc := 23) (tgt := 32) hx hb dX0_askedCells_23 (by decide) (fun c6 => ?_) (fun c6 => ?_)
      · have hd := if_t ((xo_r hH (Nat.lt_of_lt_of_le (bs_ix_lt hv5) (by decide))).symm.trans c6) hd
        refine lv_aload_n (pc := 32) hx hb dX0_askedCells_32 rfl (lv_at hl 0 rfl) ?_
        refine xg_rows (pc := 33) S hK hH dX0_askedCells_33 ?_
        refine lv_iload_n (pc := 36) hx hb dX0_askedCells_36 rfl (lv_at hl 2 rfl) ?_
        obtain ⟨v7, hv7, hd⟩ := bs_bd hd
        refine xq_rows (pc := 37) S hK hH hv7 dX0_askedCells_37 ?_
        refine lv_astore_nO (pc := 38) (lv' := [(3, va_rf (ar a v7)), (0, .ref (ah a 0)), (1, .int a1), (2, .int a2)]) hx hb dX0_askedCells_38 rfl hl (by decide) rfl (fun ls hl => ?_)
        refine lv_aload_nO (pc := 39) hx hb dX0_askedCells_39 rfl (lv_at hl 0 rfl) ?_
        obtain ⟨v8, hv8, hd⟩ := bs_bd hd
        refine xr_len (pc := 40) (j := v7) S hK hH (Nat.lt_of_lt_of_le (bs_ix_lt hv7) (by decide)) hv8 dX0_askedCells_40 ?_
        refine lv_iconst (v := (2 : Int32)) (pc := 41) hx hb dX0_askedCells_41 (by decide) ?_
        refine lv_irem (pc := 42) hx hb dX0_askedCells_42 (by decide) ?_
        refine lv_if_eq (pc := 43) (tgt := 52) hx hb dX0_askedCells_43 (by decide) (fun c9 => ?_) (fun c9 => ?_)
        · have hd := if_t c9 hd
          refine lv_iconst (v := (0 : Int32)) (pc := 52) hx hb dX0_askedCells_52 (by decide) ?_
          refine lv_istore (pc := 53) (i := 4) (lv' := [(4, .int (0 : Int32)), (3, va_rf (ar a v7)), (0, .ref (ah a 0)), (1, .int a1), (2, .int a2)]) hx hb dX0_askedCells_53 hl (by decide) (by simp [va_rf_cat, vc_int, vc_ref, vc_long]) (fun ls hl => ?_)
          exact h55 bs_fu st v7 (bs_ix_lt hv7) (0 : Int32) _ _ _ hH (lv_sub hl [2, 3, 4, 1, 0] rfl) hd
        · have hd := if_n c9 hd
          refine lv_aload_n (pc := 46) hx hb dX0_askedCells_46 rfl (lv_at hl 1 rfl) ?_
          refine lv_iconst (v := (5 : Int32)) (pc := 47) hx hb dX0_askedCells_47 (by decide) ?_
          obtain ⟨q10, hq10, hd⟩ := bs_bd hd
          refine call_X_found (pc := 48) S hl hE hK hH q288 hq10 ⟨Nat.le_of_ble_eq_true rfl, Nat.le_of_ble_eq_true rfl⟩ (Nat.le_of_ble_eq_true rfl) dX0_askedCells_48 ⟨Nat.zero_le _, Nat.zero_le _⟩ (fun H locs hH => ?_)
          exact g_iret (WX ct a ρ) hd S hr hlk hH dX0_askedCells_51
      · have hd := if_n (fun h9 => c6 ((xo_r hH (Nat.lt_of_lt_of_le (bs_ix_lt hv5) (by decide))).trans h9)) hd
        refine lv_aload_n (pc := 26) hx hb dX0_askedCells_26 rfl (lv_at hl 0 rfl) ?_
        refine lv_iconst (v := (1 : Int32)) (pc := 27) hx hb dX0_askedCells_27 (by decide) ?_
        obtain ⟨q11, hq11, hd⟩ := bs_bd hd
        refine call_X_found (pc := 28) S hl hE hK hH q288 hq11 ⟨Nat.le_of_ble_eq_true rfl, Nat.le_of_ble_eq_true rfl⟩ (Nat.le_of_ble_eq_true rfl) dX0_askedCells_28 ⟨Nat.zero_le _, Nat.zero_le _⟩ (fun H locs hH => ?_)
        exact g_iret (WX ct a ρ) hd S hr hlk hH dX0_askedCells_31
    · have hd := if_t c4 hd
      refine lv_iconst (v := (-1 : Int32)) (pc := 15) hx hb dX0_askedCells_15 (by decide) ?_
      exact g_iret (WX ct a ρ) hd S hr hlk hH dX0_askedCells_16
section CR_X_askedCells
variable {p : Program} {l : Launch} {e : Env} {R : Room} {s : State} {m : MethodId} {args : Array Value} {below : List Frame} {meth : Method} {c : Code} {H : Heap} {locs : List Loc} {cells slots : Nat} {Q : State → Prop}
variable {cc : ByteArray} {pc nL idx : Nat} {ls : Array Slot} {rest : List Value} {lv : List (Nat × Value)} {A : Nat → Prop} {H0 : Heap} {own : String}
theorem call_X_askedCells {D : va_G} {ct : Nat → ClassId} {a : XA} {ρ : Option Nat} {st : XS} {a1 : Int32} {a2 : Int32} {z : (XS × Int32)} (S : CallFix p m c cc nL s args lw_all own) (hl : lv_has ls nL lv) (hE : gEX s) (hK : va_K D clA (tysG ct) s) (hH : GH D A (xAs a) H0 (WX ct a ρ st) H locs) (hlk : Cond.methodLink own idx yX0_askedCells ∈ lw_all) (hv : X_askedCells st a1 a2 = some z) (hR : 3 ≤ R.frames ∧ 67 ≤ R.locals) (hsum : (rest.map fun v => v.category).sum ≤ 8) (hdg : decode cc pc = .ok (.invokevirtual idx, 3)) (hf : cells ≤ R.cells ∧ slots ≤ R.slots)
    (k : ∀ (H1 : Heap) (locs1 : List Loc), GH D A (xAs a) H0 (WX ct a ρ z.1) H1 locs1 → W p l e R s m args below meth c H1 locs1 cells slots Q (F0 m (pc + 3) ls (.int z.2 :: rest))) : W p l e R s m args below meth c H locs cells slots Q (F0 m pc ls (.int a2 :: .int a1 :: .ref (ah a 0) :: rest)) :=
  g_calli (av := [.int a1, .int a2]) S hl gEX_ok hE hK hH (met_X_askedCells l D ct a ρ H.size st a1 a2 z hv) (lw_V hlk q773 qs25 q69 q774) rfl rfl ⟨rfl, by decide, by decide, by show (parseMethodDescriptor yX0_askedCells.desc).map (fun d => d.parameters.length) = some 2; decide +kernel⟩ hR (x_recv hK hH) (fun _ h => Or.inl h) rfl hsum hdg hf k
end CR_X_askedCells
/-! CapCouncil.isSo (LCapCouncil$Ring;II[I)Z -/
def X_isSo_J50 (k6 : Int32 → Int32 → Option Int32) (st : XS) (j1 : Nat) (a2 : Int32) (a3 : Int32) (j4 : Nat) (x6 : Int32) (y0 : Int32) (y1 : Int32) : Option Int32 :=
  if y1 = y0 then
    (bs_let (x6 + (2 : Int32)) fun w12 =>
    k6 (1 : Int32) w12)
  else
    (bs_let (x6 + (2 : Int32)) fun w11 =>
    k6 (0 : Int32) w11)
def X_isSo_L6 (st : XS) (j1 : Nat) (a2 : Int32) (a3 : Int32) (j4 : Nat) : Nat → Int32 → Int32 → Option Int32
  | 0, _, _ => none
  | n + 1, x5, x6 =>
    (xrn st j4).bind fun v1 =>
    if v1 ≤ x6 then
      (bs_gb x5 (some x5))
    else
      (if x5 = 0 then
        (bs_let (x6 + (2 : Int32)) fun w5 =>
        X_isSo_L6 st j1 a2 a3 j4 n (0 : Int32) w5)
      else
        ((xrl st j4 x6).bind fun v6 =>
        (X_holdsBy st j1 a2 a3 v6 (xi st 7)).bind fun v7 =>
        (xrl st j4 (x6 + (1 : Int32))).bind fun v8 =>
        if v8 = (1 : Int32) then
          (X_isSo_J50 (X_isSo_L6 st j1 a2 a3 j4 n) st j1 a2 a3 j4 x6 (1 : Int32) v7)
        else
          (X_isSo_J50 (X_isSo_L6 st j1 a2 a3 j4 n) st j1 a2 a3 j4 x6 (0 : Int32) v7)))
def X_isSo (st : XS) (j1 : Nat) (a2 : Int32) (a3 : Int32) (j4 : Nat) : Option Int32 :=
  X_isSo_L6 st j1 a2 a3 j4 bs_fu (1 : Int32) (0 : Int32)
def rm_X_isSo : Room := { frames := 4, cells := 0, slots := 0, locals := 120 }
set_option maxHeartbeats 4000000 in
set_option maxRecDepth 100000 in
theorem met_X_isSo (l : Launch) (D : va_G) (ct : Nat → ClassId) (a : XA) (ρ : Option Nat) (sz : Nat) (st : XS) (j1 : Nat) (a2 : Int32) (a3 : Int32) (j4 : Nat) (hj1 : j1 < 11) (hj4 : j4 < 6) (z : Int32) (hd : X_isSo st j1 a2 a3 j4 = some z) : Met l yX0_isSo (ws_ yX0_isSo cX0_isSo 7 (some .boolean)) rm_X_isSo (GPre gEX D ct (xAs a) (WX ct a ρ st) sz [.ref (ah a 0), va_rf (ag a j1), .int a2, .int a3, va_rf (ar a j4)]) (vp_Si (fun r => r = z)) 0 0 (fun _ => False) := by
  refine g_met (cc := cX0_isSo) (maxL := 7) (ret := (some .boolean)) (by decide) (by simp [lg_sl, va_rf_cat, vc_int, vc_ref, vc_long]) ?_
  intro p e U m args below meth c ls S hr hlk hK hH hE hsz hl
  have S : CallFix p m c cX0_isSo 7 U args lw_all RX0 := S
  have hx := S.1
  have hb := S.2.1
  have hl : lv_has ls 7 [(0, .ref (ah a 0)), (1, va_rf (ag a j1)), (2, .int a2), (3, .int a3), (4, va_rf (ar a j4))] := (by simpa [lv_args, va_rf_cat, vc_int, vc_ref, vc_long] using hl)
  have h6 : ∀ (n6 : Nat) (x5 : Int32) (x6 : Int32) (ls : Array Slot), lv_has ls 7 [(0, .ref (ah a 0)), (1, va_rf (ag a j1)), (2, .int a2), (3, .int a3), (4, va_rf (ar a j4)), (5, .int x5), (6, .int x6)] → X_isSo_L6 st j1 a2 a3 j4 n6 x5 x6 = some z → W p l e rm_X_isSo U m args below meth c U.heap [] 0 0 (MQ below (vp_Si (fun r => r = z)) args U 0 0 (fun _ => False)) (F0 m 6 ls []) := by
    intro n6
    induction n6 with
    | zero =>
      intro x5 x6 ls hl hd
      rw [X_isSo_L6] at hd
      cases hd
    | succ n6 ih6 =>
      have h50 : ∀ (x6 : Int32) (y0 : Int32) (y1 : Int32) (ls : Array Slot), lv_has ls 7 [(0, .ref (ah a 0)), (1, va_rf (ag a j1)), (2, .int a2), (3, .int a3), (4, va_rf (ar a j4)), (6, .int x6)] → X_isSo_J50 (X_isSo_L6 st j1 a2 a3 j4 n6) st j1 a2 a3 j4 x6 y0 y1 = some z → W p l e rm_X_isSo U m args below meth c U.heap [] 0 0 (MQ below (vp_Si (fun r => r = z)) args U 0 0 (fun _ => False)) (F0 m 50 ls [.int y0, .int y1]) := by
        intro x6 y0 y1 ls hl hd
        unfold X_isSo_J50 at hd
        refine lv_icmp_ne (pc := 50) (tgt := 57) hx hb dX0_isSo_50 (by decide) (fun c10 => ?_) (fun c10 => ?_)
        · have hd := if_n c10 hd
          refine lv_iconst (v := (0 : Int32)) (pc := 57) hx hb dX0_isSo_57 (by decide) ?_
          refine lv_istore (pc := 58) (i := 5) (lv' := [(5, .int (0 : Int32)), (0, .ref (ah a 0)), (1, va_rf (ag a j1)), (2, .int a2), (3, .int a3), (4, va_rf (ar a j4)), (6, .int x6)]) hx hb dX0_isSo_58 hl (by decide) (by simp [va_rf_cat, vc_int, vc_ref, vc_long]) (fun ls hl => ?_)
          obtain ⟨w11, ew11, hd⟩ := bs_let_spec hd
          refine lv_iinc (pc := 60) (v := w11) (lv' := [(6, .int w11), (5, .int (0 : Int32)), (0, .ref (ah a 0)), (1, va_rf (ag a j1)), (2, .int a2), (3, .int a3), (4, va_rf (ar a j4))]) hx hb dX0_isSo_60 hl (k := 6) rfl (by rw [ew11]; rfl) (by decide) rfl (fun ls hl => ?_)
          refine lv_goto (pc := 63) (tgt := 6) hx hb dX0_isSo_63 (by decide) ?_
          exact ih6 (0 : Int32) w11 _ (lv_sub hl [2, 3, 4, 5, 6, 1, 0] rfl) hd
        · have hd := if_t c10 hd
          refine lv_iconst (v := (1 : Int32)) (pc := 53) hx hb dX0_isSo_53 (by decide) ?_
          refine lv_goto (pc := 54) (tgt := 58) hx hb dX0_isSo_54 (by decide) ?_
          refine lv_istore (pc := 58) (i := 5) (lv' := [(5, .int (1 : Int32)), (0, .ref (ah a 0)), (1, va_rf (ag a j1)), (2, .int a2), (3, .int a3), (4, va_rf (ar a j4)), (6, .int x6)]) hx hb dX0_isSo_58 hl (by decide) (by simp [va_rf_cat, vc_int, vc_ref, vc_long]) (fun ls hl => ?_)
          obtain ⟨w12, ew12, hd⟩ := bs_let_spec hd
          refine lv_iinc (pc := 60) (v := w12) (lv' := [(6, .int w12), (5, .int (1 : Int32)), (0, .ref (ah a 0)), (1, va_rf (ag a j1)), (2, .int a2), (3, .int a3), (4, va_rf (ar a j4))]) hx hb dX0_isSo_60 hl (k := 6) rfl (by rw [ew12]; rfl) (by decide) rfl (fun ls hl => ?_)
          refine lv_goto (pc := 63) (tgt := 6) hx hb dX0_isSo_63 (by decide) ?_
          exact ih6 (1 : Int32) w12 _ (lv_sub hl [2, 3, 4, 5, 6, 1, 0] rfl) hd
      intro x5 x6 ls hl hd
      rw [X_isSo_L6] at hd
      refine lv_iload (pc := 6) hx hb dX0_isSo_6 (lv_at hl 6 rfl) ?_
      refine lv_aloadO (pc := 8) hx hb dX0_isSo_8 (lv_at hl 4 rfl) ?_
      obtain ⟨v1, hv1, hd⟩ := bs_bd hd
      refine xr_len (pc := 10) (j := j4) S hK hH (Nat.lt_of_lt_of_le hj4 (by decide)) hv1 dX0_isSo_10 ?_
      refine lv_icmp_ge (pc := 11) (tgt := 66) hx hb dX0_isSo_11 (by decide) (fun c2 => ?_) (fun c2 => ?_)
      · have hd := if_t c2 hd
        refine lv_iload (pc := 66) hx hb dX0_isSo_66 (lv_at hl 5 rfl) ?_
        obtain ⟨hn3, hd⟩ := bs_gb_spec hd
        exact r_zret hn3 hd S hr hlk dX0_isSo_68
      · have hd := if_n c2 hd
        refine lv_iload (pc := 14) hx hb dX0_isSo_14 (lv_at hl 5 rfl) ?_
        refine lv_if_eq (pc := 16) (tgt := 57) hx hb dX0_isSo_16 (by decide) (fun c4 => ?_) (fun c4 => ?_)
        · have hd := if_t c4 hd
          refine lv_iconst (v := (0 : Int32)) (pc := 57) hx hb dX0_isSo_57 (by decide) ?_
          refine lv_istore (pc := 58) (i := 5) (lv' := [(5, .int (0 : Int32)), (0, .ref (ah a 0)), (1, va_rf (ag a j1)), (2, .int a2), (3, .int a3), (4, va_rf (ar a j4)), (6, .int x6)]) hx hb dX0_isSo_58 hl (by decide) (by simp [va_rf_cat, vc_int, vc_ref, vc_long]) (fun ls hl => ?_)
          obtain ⟨w5, ew5, hd⟩ := bs_let_spec hd
          refine lv_iinc (pc := 60) (v := w5) (lv' := [(6, .int w5), (5, .int (0 : Int32)), (0, .ref (ah a 0)), (1, va_rf (ag a j1)), (2, .int a2), (3, .int a3), (4, va_rf (ar a j4))]) hx hb dX0_isSo_60 hl (k := 6) rfl (by rw [ew5]; rfl) (by decide) rfl (fun ls hl => ?_)
          refine lv_goto (pc := 63) (tgt := 6) hx hb dX0_isSo_63 (by decide) ?_
          exact ih6 (0 : Int32) w5 _ (lv_sub hl [2, 3, 4, 5, 6, 1, 0] rfl) hd
        · have hd := if_n c4 hd
          refine lv_aload_nO (pc := 19) hx hb dX0_isSo_19 rfl (lv_at hl 1 rfl) ?_
          refine lv_iload_n (pc := 20) hx hb dX0_isSo_20 rfl (lv_at hl 2 rfl) ?_
          refine lv_iload_n (pc := 21) hx hb dX0_isSo_21 rfl (lv_at hl 3 rfl) ?_
          refine lv_aloadO (pc := 22) hx hb dX0_isSo_22 (lv_at hl 4 rfl) ?_
          refine lv_iload (pc := 24) hx hb dX0_isSo_24 (lv_at hl 6 rfl) ?_
          obtain ⟨v6, hv6, hd⟩ := bs_bd hd
          refine xr_ild (pc := 26) S hK hH hj4 hv6 dX0_isSo_26 ?_
          refine lv_aload_n (pc := 27) hx hb dX0_isSo_27 rfl (lv_at hl 0 rfl) ?_
          refine xg_yearNow (pc := 28) S hK hH dX0_isSo_28 ?_
          obtain ⟨v7, hv7, hd⟩ := bs_bd hd
          refine call_X_holdsBy (pc := 31) S hl hE hK hH q527 hv7 hj1 ⟨Nat.le_of_ble_eq_true rfl, Nat.le_of_ble_eq_true rfl⟩ (Nat.le_of_ble_eq_true rfl) dX0_isSo_31 ⟨Nat.zero_le _, Nat.zero_le _⟩ ?_
          refine lv_aloadO (pc := 34) hx hb dX0_isSo_34 (lv_at hl 4 rfl) ?_
          refine lv_iload (pc := 36) hx hb dX0_isSo_36 (lv_at hl 6 rfl) ?_
          refine lv_iconst (v := (1 : Int32)) (pc := 38) hx hb dX0_isSo_38 (by decide) ?_
          refine lv_iadd (pc := 39) hx hb dX0_isSo_39 ?_
          obtain ⟨v8, hv8, hd⟩ := bs_bd hd
          refine xr_ild (pc := 40) S hK hH hj4 hv8 dX0_isSo_40 ?_
          refine lv_iconst (v := (1 : Int32)) (pc := 41) hx hb dX0_isSo_41 (by decide) ?_
          refine lv_icmp_ne (pc := 42) (tgt := 49) hx hb dX0_isSo_42 (by decide) (fun c9 => ?_) (fun c9 => ?_)
          · have hd := if_n c9 hd
            refine lv_iconst (v := (0 : Int32)) (pc := 49) hx hb dX0_isSo_49 (by decide) ?_
            exact h50 x6 (0 : Int32) v7 _ (lv_sub hl [0, 1, 2, 3, 4, 6] rfl) hd
          · have hd := if_t c9 hd
            refine lv_iconst (v := (1 : Int32)) (pc := 45) hx hb dX0_isSo_45 (by decide) ?_
            refine lv_goto (pc := 46) (tgt := 50) hx hb dX0_isSo_46 (by decide) ?_
            exact h50 x6 (1 : Int32) v7 _ (lv_sub hl [0, 1, 2, 3, 4, 6] rfl) hd
  unfold X_isSo at hd
  refine lv_iconst (v := (1 : Int32)) (pc := 0) hx hb dX0_isSo_0 (by decide) ?_
  refine lv_istore (pc := 1) (i := 5) (lv' := [(5, .int (1 : Int32)), (0, .ref (ah a 0)), (1, va_rf (ag a j1)), (2, .int a2), (3, .int a3), (4, va_rf (ar a j4))]) hx hb dX0_isSo_1 hl (by decide) (by simp [va_rf_cat, vc_int, vc_ref, vc_long]) (fun ls hl => ?_)
  refine lv_iconst (v := (0 : Int32)) (pc := 3) hx hb dX0_isSo_3 (by decide) ?_
  refine lv_istore (pc := 4) (lv' := [(6, .int (0 : Int32)), (5, .int (1 : Int32)), (0, .ref (ah a 0)), (1, va_rf (ag a j1)), (2, .int a2), (3, .int a3), (4, va_rf (ar a j4))]) hx hb dX0_isSo_4 hl (by decide) rfl (fun ls hl => ?_)
  exact h6 bs_fu (1 : Int32) (0 : Int32) _ (lv_sub hl [2, 3, 4, 5, 6, 1, 0] rfl) hd
section CR_X_isSo
variable {p : Program} {l : Launch} {e : Env} {R : Room} {s : State} {m : MethodId} {args : Array Value} {below : List Frame} {meth : Method} {c : Code} {H : Heap} {locs : List Loc} {cells slots : Nat} {Q : State → Prop}
variable {cc : ByteArray} {pc nL idx : Nat} {ls : Array Slot} {rest : List Value} {lv : List (Nat × Value)} {A : Nat → Prop} {H0 : Heap} {own : String}
theorem call_X_isSo {D : va_G} {ct : Nat → ClassId} {a : XA} {ρ : Option Nat} {st : XS} {j1 : Nat} {a2 : Int32} {a3 : Int32} {j4 : Nat} {z : Int32} (S : CallFix p m c cc nL s args lw_all own) (hl : lv_has ls nL lv) (hE : gEX s) (hK : va_K D clA (tysG ct) s) (hH : GH D A (xAs a) H0 (WX ct a ρ st) H locs) (hlk : Cond.methodLink own idx yX0_isSo ∈ lw_all) (hv : X_isSo st j1 a2 a3 j4 = some z) (hj1 : j1 < 11) (hj4 : j4 < 6) (hR : 5 ≤ R.frames ∧ 146 ≤ R.locals) (hsum : (rest.map fun v => v.category).sum ≤ 8) (hdg : decode cc pc = .ok (.invokevirtual idx, 3)) (hf : cells ≤ R.cells ∧ slots ≤ R.slots)
    (k : W p l e R s m args below meth c H locs cells slots Q (F0 m (pc + 3) ls (.int z :: rest))) : W p l e R s m args below meth c H locs cells slots Q (F0 m pc ls (va_rf (ar a j4) :: .int a3 :: .int a2 :: va_rf (ag a j1) :: .ref (ah a 0) :: rest)) :=
  r_calli (av := [va_rf (ag a j1), .int a2, .int a3, va_rf (ar a j4)]) S hl gEX_ok hE hK hH (met_X_isSo l D ct a ρ H.size st j1 a2 a3 j4 hj1 hj4 z hv) (lw_V hlk q777 qs26 q69 q778) rfl rfl ⟨rfl, by decide, by decide, by show (parseMethodDescriptor yX0_isSo.desc).map (fun d => d.parameters.length) = some 4; decide +kernel⟩ hR (x_recv hK hH) rfl hsum hdg hf k
end CR_X_isSo
/-! CapCouncil.middles (II)I -/
def X_middles_J73 (k23 : XS → Int32 → Int32 → Int32 → Option (XS × Int32)) (a1 : Int32) (a2 : Int32) (st : XS) (x4 : Int32) (x6 : Int32) (x7 : Int32) (y0 : Int32) : Option (XS × Int32) :=
  if x7 = 0 then
    (bs_let (x4 + (0 : Int32)) fun w13 =>
    bs_let (x6 + (1 : Int32)) fun w14 =>
    k23 st w13 y0 w14)
  else
    (bs_let (x4 + (1 : Int32)) fun w15 =>
    bs_let (x6 + (1 : Int32)) fun w16 =>
    k23 st w15 y0 w16)
def X_middles_L23 (k96 : XS → Int32 → Int32 → Option (XS × Int32)) (a1 : Int32) (a2 : Int32) : Nat → XS → Int32 → Int32 → Int32 → Option (XS × Int32)
  | 0, _, _, _, _ => none
  | n + 1, st, x4, x5, x6 =>
    if (100 : Int32) ≤ x6 then
      (k96 st x4 x5)
    else
      ((bs_ix 5 a1).bind fun v4 =>
      (bs_ld (xa st 2) 5 a1).bind fun v5 =>
      (bs_ix 6 a2).bind fun v6 =>
      (X_isSo st (6 + v4) x6 v5 v6).bind fun v7 =>
      if v7 = 0 then
        (X_middles_J73 (X_middles_L23 k96 a1 a2 n) a1 a2 st x4 x6 v7 x5)
      else
        (if x4 = 0 then
          (X_middles_J73 (X_middles_L23 k96 a1 a2 n) a1 a2 st x4 x6 v7 x6)
        else
          (X_middles_J73 (X_middles_L23 k96 a1 a2 n) a1 a2 st x4 x6 v7 x5)))
def X_middles_J96 (a1 : Int32) (a2 : Int32) (st : XS) (x4 : Int32) (x5 : Int32) : Option (XS × Int32) :=
  if x4 = 0 then
    (some (st, (-9 : Int32)))
  else
    ((X_ask st x5 x4).bind fun q11 =>
    some (q11.1, q11.2))
def X_middles (st : XS) (a1 : Int32) (a2 : Int32) : Option (XS × Int32) :=
  (X_askedCells st a1 a2).bind fun q1 =>
  if 0 ≤ q1.2 then
    (X_middles_L23 (X_middles_J96 a1 a2) a1 a2 bs_fu q1.1 (0 : Int32) (-9 : Int32) (0 : Int32))
  else
    (some (q1.1, q1.2))
def rm_X_middles : Room := { frames := 5, cells := 0, slots := 0, locals := 146 }
set_option maxHeartbeats 4000000 in
set_option maxRecDepth 100000 in
theorem met_X_middles (l : Launch) (D : va_G) (ct : Nat → ClassId) (a : XA) (ρ : Option Nat) (sz : Nat) (st : XS) (a1 : Int32) (a2 : Int32) (z : (XS × Int32)) (hd : X_middles st a1 a2 = some z) : Met l yX0_middles (ws_ yX0_middles cX0_middles 8 (some .int)) rm_X_middles (GPre gEX D ct (xAs a) (WX ct a ρ st) sz [.ref (ah a 0), .int a1, .int a2]) (GQi D (xAs a) (xAs a) (WX ct a ρ z.1) sz z.2) 0 0 (gA (xAs a) sz) := by
  refine g_met (cc := cX0_middles) (maxL := 8) (ret := (some .int)) (by decide) (Nat.le_of_ble_eq_true rfl) ?_
  intro p e U m args below meth c ls S hr hlk hK hH hE hsz hl
  have S : CallFix p m c cX0_middles 8 U args lw_all RX0 := S
  have hx := S.1
  have hb := S.2.1
  have hl : lv_has ls 8 [(0, .ref (ah a 0)), (1, .int a1), (2, .int a2)] := hl
  have h96 : ∀ (st : XS) (x4 : Int32) (x5 : Int32) (H : Heap) (locs : List Loc) (ls : Array Slot), GH D (gA (xAs a) sz) (xAs a) U.heap (WX ct a ρ st) H locs → lv_has ls 8 [(0, .ref (ah a 0)), (1, .int a1), (2, .int a2), (4, .int x4), (5, .int x5)] → X_middles_J96 a1 a2 st x4 x5 = some z → W p l e rm_X_middles U m args below meth c H locs 0 0 (MQ below (GQi D (xAs a) (xAs a) (WX ct a ρ z.1) sz z.2) args U 0 0 (gA (xAs a) sz)) (F0 m 96 ls []) := by
    intro st x4 x5 H locs ls hH hl hd
    unfold X_middles_J96 at hd
    refine lv_iload (pc := 96) hx hb dX0_middles_96 (lv_at hl 3 rfl) ?_
    refine lv_if_ne (pc := 98) (tgt := 106) hx hb dX0_middles_98 (by decide) (fun c10 => ?_) (fun c10 => ?_)
    · have hd := if_n c10 hd
      refine lv_aload_n (pc := 106) hx hb dX0_middles_106 rfl (lv_at hl 0 rfl) ?_
      refine lv_iload (pc := 107) hx hb dX0_middles_107 (lv_at hl 4 rfl) ?_
      refine lv_iload (pc := 109) hx hb dX0_middles_109 (lv_at hl 3 rfl) ?_
      obtain ⟨q11, hq11, hd⟩ := bs_bd hd
      refine call_X_ask (pc := 111) S hl hE hK hH q344 hq11 ⟨Nat.le_of_ble_eq_true rfl, Nat.le_of_ble_eq_true rfl⟩ (Nat.le_of_ble_eq_true rfl) dX0_middles_111 ⟨Nat.zero_le _, Nat.zero_le _⟩ (fun H locs hH => ?_)
      exact g_iret (WX ct a ρ) hd S hr hlk hH dX0_middles_114
    · have hd := if_t c10 hd
      refine lv_bipush (v := (-9 : Int32)) (pc := 101) hx hb dX0_middles_101 (by decide) ?_
      refine lv_goto (pc := 103) (tgt := 114) hx hb dX0_middles_103 (by decide) ?_
      exact g_iret (WX ct a ρ) hd S hr hlk hH dX0_middles_114
  have h23 : ∀ (n23 : Nat) (st : XS) (x4 : Int32) (x5 : Int32) (x6 : Int32) (H : Heap) (locs : List Loc) (ls : Array Slot), GH D (gA (xAs a) sz) (xAs a) U.heap (WX ct a ρ st) H locs → lv_has ls 8 [(0, .ref (ah a 0)), (1, .int a1), (2, .int a2), (4, .int x4), (5, .int x5), (6, .int x6)] → X_middles_L23 (X_middles_J96 a1 a2) a1 a2 n23 st x4 x5 x6 = some z → W p l e rm_X_middles U m args below meth c H locs 0 0 (MQ below (GQi D (xAs a) (xAs a) (WX ct a ρ z.1) sz z.2) args U 0 0 (gA (xAs a) sz)) (F0 m 23 ls []) := by
    intro n23
    induction n23 with
    | zero =>
      intro st x4 x5 x6 H locs ls hH hl hd
      rw [X_middles_L23] at hd
      cases hd
    | succ n23 ih23 =>
      have h73 : ∀ (st : XS) (x4 : Int32) (x6 : Int32) (x7 : Int32) (y0 : Int32) (H : Heap) (locs : List Loc) (ls : Array Slot), GH D (gA (xAs a) sz) (xAs a) U.heap (WX ct a ρ st) H locs → lv_has ls 8 [(0, .ref (ah a 0)), (1, .int a1), (2, .int a2), (4, .int x4), (6, .int x6), (7, .int x7)] → X_middles_J73 (X_middles_L23 (X_middles_J96 a1 a2) a1 a2 n23) a1 a2 st x4 x6 x7 y0 = some z → W p l e rm_X_middles U m args below meth c H locs 0 0 (MQ below (GQi D (xAs a) (xAs a) (WX ct a ρ z.1) sz z.2) args U 0 0 (gA (xAs a) sz)) (F0 m 73 ls [.int y0]) := by
        intro st x4 x6 x7 y0 H locs ls hH hl hd
        unfold X_middles_J73 at hd
        refine lv_istore (pc := 73) (lv' := [(5, .int y0), (0, .ref (ah a 0)), (1, .int a1), (2, .int a2), (4, .int x4), (6, .int x6), (7, .int x7)]) hx hb dX0_middles_73 hl (by decide) rfl (fun ls hl => ?_)
        refine lv_iload (pc := 75) hx hb dX0_middles_75 (lv_at hl 4 rfl) ?_
        refine lv_iload (pc := 77) hx hb dX0_middles_77 (lv_at hl 6 rfl) ?_
        refine lv_if_eq (pc := 79) (tgt := 86) hx hb dX0_middles_79 (by decide) (fun c12 => ?_) (fun c12 => ?_)
        · have hd := if_t c12 hd
          refine lv_iconst (v := (0 : Int32)) (pc := 86) hx hb dX0_middles_86 (by decide) ?_
          refine lv_iadd (pc := 87) hx hb dX0_middles_87 ?_
          obtain ⟨w13, ew13, hd⟩ := bs_let_spec hd
          refine lv_topE (pc := 88) ew13 ?_
          refine lv_istore (pc := 88) (lv' := [(4, .int w13), (5, .int y0), (0, .ref (ah a 0)), (1, .int a1), (2, .int a2), (6, .int x6), (7, .int x7)]) hx hb dX0_middles_88 hl (by decide) rfl (fun ls hl => ?_)
          obtain ⟨w14, ew14, hd⟩ := bs_let_spec hd
          refine lv_iinc (pc := 90) (v := w14) (lv' := [(6, .int w14), (4, .int w13), (5, .int y0), (0, .ref (ah a 0)), (1, .int a1), (2, .int a2), (7, .int x7)]) hx hb dX0_middles_90 hl (k := 5) rfl (by rw [ew14]; rfl) (by decide) rfl (fun ls hl => ?_)
          refine lv_goto (pc := 93) (tgt := 23) hx hb dX0_middles_93 (by decide) ?_
          exact ih23 st w13 y0 w14 _ _ _ hH (lv_sub hl [3, 4, 5, 1, 2, 0] rfl) hd
        · have hd := if_n c12 hd
          refine lv_iconst (v := (1 : Int32)) (pc := 82) hx hb dX0_middles_82 (by decide) ?_
          refine lv_goto (pc := 83) (tgt := 87) hx hb dX0_middles_83 (by decide) ?_
          refine lv_iadd (pc := 87) hx hb dX0_middles_87 ?_
          obtain ⟨w15, ew15, hd⟩ := bs_let_spec hd
          refine lv_topE (pc := 88) ew15 ?_
          refine lv_istore (pc := 88) (lv' := [(4, .int w15), (5, .int y0), (0, .ref (ah a 0)), (1, .int a1), (2, .int a2), (6, .int x6), (7, .int x7)]) hx hb dX0_middles_88 hl (by decide) rfl (fun ls hl => ?_)
          obtain ⟨w16, ew16, hd⟩ := bs_let_spec hd
          refine lv_iinc (pc := 90) (v := w16) (lv' := [(6, .int w16), (4, .int w15), (5, .int y0), (0, .ref (ah a 0)), (1, .int a1), (2, .int a2), (7, .int x7)]) hx hb dX0_middles_90 hl (k := 5) rfl (by rw [ew16]; rfl) (by decide) rfl (fun ls hl => ?_)
          refine lv_goto (pc := 93) (tgt := 23) hx hb dX0_middles_93 (by decide) ?_
          exact ih23 st w15 y0 w16 _ _ _ hH (lv_sub hl [3, 4, 5, 1, 2, 0] rfl) hd
      intro st x4 x5 x6 H locs ls hH hl hd
      rw [X_middles_L23] at hd
      refine lv_iload (pc := 23) hx hb dX0_middles_23 (lv_at hl 5 rfl) ?_
      refine lv_bipush (v := (100 : Int32)) (pc := 25) hx hb dX0_middles_25 (by decide) ?_
      refine lv_icmp_ge (pc := 27) (tgt := 96) hx hb dX0_middles_27 (by decide) (fun c3 => ?_) (fun c3 => ?_)
      · have hd := if_t c3 hd
        exact h96 st x4 x5 _ _ _ hH (lv_sub hl [0, 1, 2, 3, 4] rfl) hd
      · have hd := if_n c3 hd
        refine lv_aload_n (pc := 30) hx hb dX0_middles_30 rfl (lv_at hl 0 rfl) ?_
        refine lv_aload_n (pc := 31) hx hb dX0_middles_31 rfl (lv_at hl 0 rfl) ?_
        refine xg_rings (pc := 32) S hK hH dX0_middles_32 ?_
        refine lv_iload_n (pc := 35) hx hb dX0_middles_35 rfl (lv_at hl 1 rfl) ?_
        obtain ⟨v4, hv4, hd⟩ := bs_bd hd
        refine xq_rings (pc := 36) S hK hH hv4 dX0_middles_36 ?_
        refine lv_iload (pc := 37) hx hb dX0_middles_37 (lv_at hl 5 rfl) ?_
        refine lv_aload_n (pc := 39) hx hb dX0_middles_39 rfl (lv_at hl 0 rfl) ?_
        refine xg_wideOf (pc := 40) S hK hH dX0_middles_40 ?_
        refine lv_iload_n (pc := 43) hx hb dX0_middles_43 rfl (lv_at hl 1 rfl) ?_
        obtain ⟨v5, hv5, hd⟩ := bs_bd hd
        refine xl_wideOf (pc := 44) S hK hH hv5 dX0_middles_44 ?_
        refine lv_aload_n (pc := 45) hx hb dX0_middles_45 rfl (lv_at hl 0 rfl) ?_
        refine xg_rows (pc := 46) S hK hH dX0_middles_46 ?_
        refine lv_iload_n (pc := 49) hx hb dX0_middles_49 rfl (lv_at hl 2 rfl) ?_
        obtain ⟨v6, hv6, hd⟩ := bs_bd hd
        refine xq_rows (pc := 50) S hK hH hv6 dX0_middles_50 ?_
        obtain ⟨v7, hv7, hd⟩ := bs_bd hd
        refine call_X_isSo (pc := 51) S hl hE hK hH q775 hv7 (Nat.add_lt_add_left (bs_ix_lt hv4) 6) (bs_ix_lt hv6) ⟨Nat.le_of_ble_eq_true rfl, Nat.le_of_ble_eq_true rfl⟩ (Nat.le_of_ble_eq_true rfl) dX0_middles_51 ⟨Nat.zero_le _, Nat.zero_le _⟩ ?_
        refine lv_istore (pc := 54) (lv' := [(7, .int v7), (0, .ref (ah a 0)), (1, .int a1), (2, .int a2), (4, .int x4), (5, .int x5), (6, .int x6)]) hx hb dX0_middles_54 hl (by decide) rfl (fun ls hl => ?_)
        refine lv_iload (pc := 56) hx hb dX0_middles_56 (lv_at hl 0 rfl) ?_
        refine lv_if_eq (pc := 58) (tgt := 71) hx hb dX0_middles_58 (by decide) (fun c8 => ?_) (fun c8 => ?_)
        · have hd := if_t c8 hd
          refine lv_iload (pc := 71) hx hb dX0_middles_71 (lv_at hl 5 rfl) ?_
          exact h73 st x4 x6 v7 x5 _ _ _ hH (lv_sub hl [1, 2, 3, 4, 6, 0] rfl) hd
        · have hd := if_n c8 hd
          refine lv_iload (pc := 61) hx hb dX0_middles_61 (lv_at hl 4 rfl) ?_
          refine lv_if_ne (pc := 63) (tgt := 71) hx hb dX0_middles_63 (by decide) (fun c9 => ?_) (fun c9 => ?_)
          · have hd := if_n c9 hd
            refine lv_iload (pc := 71) hx hb dX0_middles_71 (lv_at hl 5 rfl) ?_
            exact h73 st x4 x6 v7 x5 _ _ _ hH (lv_sub hl [1, 2, 3, 4, 6, 0] rfl) hd
          · have hd := if_t c9 hd
            refine lv_iload (pc := 66) hx hb dX0_middles_66 (lv_at hl 6 rfl) ?_
            refine lv_goto (pc := 68) (tgt := 73) hx hb dX0_middles_68 (by decide) ?_
            exact h73 st x4 x6 v7 x6 _ _ _ hH (lv_sub hl [1, 2, 3, 4, 6, 0] rfl) hd
  unfold X_middles at hd
  refine lv_aload_n (pc := 0) hx hb dX0_middles_0 rfl (lv_at hl 0 rfl) ?_
  refine lv_iload_n (pc := 1) hx hb dX0_middles_1 rfl (lv_at hl 1 rfl) ?_
  refine lv_iload_n (pc := 2) hx hb dX0_middles_2 rfl (lv_at hl 2 rfl) ?_
  obtain ⟨q1, hq1, hd⟩ := bs_bd hd
  refine call_X_askedCells (pc := 3) S hl hE hK hH q771 hq1 ⟨Nat.le_of_ble_eq_true rfl, Nat.le_of_ble_eq_true rfl⟩ (Nat.le_of_ble_eq_true rfl) dX0_middles_3 ⟨Nat.zero_le _, Nat.zero_le _⟩ (fun H locs hH => ?_)
  refine lv_istore_n (pc := 6) (lv' := [(3, .int q1.2), (0, .ref (ah a 0)), (1, .int a1), (2, .int a2)]) hx hb dX0_middles_6 rfl hl (by decide) rfl (fun ls hl => ?_)
  refine lv_iload_n (pc := 7) hx hb dX0_middles_7 rfl (lv_at hl 0 rfl) ?_
  refine lv_if_ge (pc := 8) (tgt := 13) hx hb dX0_middles_8 (by decide) (fun c2 => ?_) (fun c2 => ?_)
  · have hd := if_t c2 hd
    refine lv_iconst (v := (0 : Int32)) (pc := 13) hx hb dX0_middles_13 (by decide) ?_
    refine lv_istore (pc := 14) (lv' := [(4, .int (0 : Int32)), (3, .int q1.2), (0, .ref (ah a 0)), (1, .int a1), (2, .int a2)]) hx hb dX0_middles_14 hl (by decide) rfl (fun ls hl => ?_)
    refine lv_bipush (v := (-9 : Int32)) (pc := 16) hx hb dX0_middles_16 (by decide) ?_
    refine lv_istore (pc := 18) (lv' := [(5, .int (-9 : Int32)), (4, .int (0 : Int32)), (3, .int q1.2), (0, .ref (ah a 0)), (1, .int a1), (2, .int a2)]) hx hb dX0_middles_18 hl (by decide) rfl (fun ls hl => ?_)
    refine lv_iconst (v := (0 : Int32)) (pc := 20) hx hb dX0_middles_20 (by decide) ?_
    refine lv_istore (pc := 21) (lv' := [(6, .int (0 : Int32)), (5, .int (-9 : Int32)), (4, .int (0 : Int32)), (3, .int q1.2), (0, .ref (ah a 0)), (1, .int a1), (2, .int a2)]) hx hb dX0_middles_21 hl (by decide) rfl (fun ls hl => ?_)
    exact h23 bs_fu q1.1 (0 : Int32) (-9 : Int32) (0 : Int32) _ _ _ hH (lv_sub hl [4, 5, 6, 2, 1, 0] rfl) hd
  · have hd := if_n c2 hd
    refine lv_iload_n (pc := 11) hx hb dX0_middles_11 rfl (lv_at hl 0 rfl) ?_
    exact g_iret (WX ct a ρ) hd S hr hlk hH dX0_middles_12
section CR_X_middles
variable {p : Program} {l : Launch} {e : Env} {R : Room} {s : State} {m : MethodId} {args : Array Value} {below : List Frame} {meth : Method} {c : Code} {H : Heap} {locs : List Loc} {cells slots : Nat} {Q : State → Prop}
variable {cc : ByteArray} {pc nL idx : Nat} {ls : Array Slot} {rest : List Value} {lv : List (Nat × Value)} {A : Nat → Prop} {H0 : Heap} {own : String}
theorem call_X_middles {D : va_G} {ct : Nat → ClassId} {a : XA} {ρ : Option Nat} {st : XS} {a1 : Int32} {a2 : Int32} {z : (XS × Int32)} (S : CallFix p m c cc nL s args lw_all own) (hl : lv_has ls nL lv) (hE : gEX s) (hK : va_K D clA (tysG ct) s) (hH : GH D A (xAs a) H0 (WX ct a ρ st) H locs) (hlk : Cond.methodLink own idx yX0_middles ∈ lw_all) (hv : X_middles st a1 a2 = some z) (hR : 6 ≤ R.frames ∧ 173 ≤ R.locals) (hsum : (rest.map fun v => v.category).sum ≤ 8) (hdg : decode cc pc = .ok (.invokevirtual idx, 3)) (hf : cells ≤ R.cells ∧ slots ≤ R.slots)
    (k : ∀ (H1 : Heap) (locs1 : List Loc), GH D A (xAs a) H0 (WX ct a ρ z.1) H1 locs1 → W p l e R s m args below meth c H1 locs1 cells slots Q (F0 m (pc + 3) ls (.int z.2 :: rest))) : W p l e R s m args below meth c H locs cells slots Q (F0 m pc ls (.int a2 :: .int a1 :: .ref (ah a 0) :: rest)) :=
  g_calli (av := [.int a1, .int a2]) S hl gEX_ok hE hK hH (met_X_middles l D ct a ρ H.size st a1 a2 z hv) (lw_V hlk q768 q769 q69 q770) rfl rfl ⟨rfl, by decide, by decide, by show (parseMethodDescriptor yX0_middles.desc).map (fun d => d.parameters.length) = some 2; decide +kernel⟩ hR (x_recv hK hH) (fun _ h => Or.inl h) rfl hsum hdg hf k
end CR_X_middles
/-! CapCouncil.wides (II)I -/
def X_wides_L19 (a1 : Int32) (a2 : Int32) : Nat → XS → Int32 → Int32 → Option (XS × Int32)
  | 0, _, _, _ => none
  | n + 1, st, x4, x5 =>
    if (9 : Int32) < x5 then
      (some (st, x4))
    else
      ((bs_ix 5 a1).bind fun v4 =>
      (bs_ld (xa st 1) 5 a1).bind fun v5 =>
      (bs_ix 6 a2).bind fun v6 =>
      (X_isSo st (6 + v4) v5 x5 v6).bind fun v7 =>
      if v7 = 0 then
        (bs_let (x4 ||| (0 : Int32)) fun w9 =>
        bs_let (x5 + (1 : Int32)) fun w10 =>
        X_wides_L19 a1 a2 n st w9 w10)
      else
        (bs_let (x4 ||| ((1 : Int32) <<< (x5 &&& 31))) fun w11 =>
        bs_let (x5 + (1 : Int32)) fun w12 =>
        X_wides_L19 a1 a2 n st w11 w12))
def X_wides (st : XS) (a1 : Int32) (a2 : Int32) : Option (XS × Int32) :=
  (X_askedCells st a1 a2).bind fun q1 =>
  if 0 ≤ q1.2 then
    (X_wides_L19 a1 a2 bs_fu q1.1 (0 : Int32) (0 : Int32))
  else
    (some (q1.1, q1.2))
def rm_X_wides : Room := { frames := 5, cells := 0, slots := 0, locals := 146 }
set_option maxHeartbeats 4000000 in
set_option maxRecDepth 100000 in
theorem met_X_wides (l : Launch) (D : va_G) (ct : Nat → ClassId) (a : XA) (ρ : Option Nat) (sz : Nat) (st : XS) (a1 : Int32) (a2 : Int32) (z : (XS × Int32)) (hd : X_wides st a1 a2 = some z) : Met l yX0_wides (ws_ yX0_wides cX0_wides 6 (some .int)) rm_X_wides (GPre gEX D ct (xAs a) (WX ct a ρ st) sz [.ref (ah a 0), .int a1, .int a2]) (GQi D (xAs a) (xAs a) (WX ct a ρ z.1) sz z.2) 0 0 (gA (xAs a) sz) := by
  refine g_met (cc := cX0_wides) (maxL := 6) (ret := (some .int)) (by decide) (Nat.le_of_ble_eq_true rfl) ?_
  intro p e U m args below meth c ls S hr hlk hK hH hE hsz hl
  have S : CallFix p m c cX0_wides 6 U args lw_all RX0 := S
  have hx := S.1
  have hb := S.2.1
  have hl : lv_has ls 6 [(0, .ref (ah a 0)), (1, .int a1), (2, .int a2)] := hl
  have h19 : ∀ (n19 : Nat) (st : XS) (x4 : Int32) (x5 : Int32) (H : Heap) (locs : List Loc) (ls : Array Slot), GH D (gA (xAs a) sz) (xAs a) U.heap (WX ct a ρ st) H locs → lv_has ls 6 [(0, .ref (ah a 0)), (1, .int a1), (2, .int a2), (4, .int x4), (5, .int x5)] → X_wides_L19 a1 a2 n19 st x4 x5 = some z → W p l e rm_X_wides U m args below meth c H locs 0 0 (MQ below (GQi D (xAs a) (xAs a) (WX ct a ρ z.1) sz z.2) args U 0 0 (gA (xAs a) sz)) (F0 m 19 ls []) := by
    intro n19
    induction n19 with
    | zero =>
      intro st x4 x5 H locs ls hH hl hd
      rw [X_wides_L19] at hd
      cases hd
    | succ n19 ih19 =>
      intro st x4 x5 H locs ls hH hl hd
      rw [X_wides_L19] at hd
      refine lv_iload (pc := 19) hx hb dX0_wides_19 (lv_at hl 4 rfl) ?_
      refine lv_bipush (v := (9 : Int32)) (pc := 21) hx hb dX0_wides_21 (by decide) ?_
      refine lv_icmp_gt (pc := 23) (tgt := 72) hx hb dX0_wides_23 (by decide) (fun c3 => ?_) (fun c3 => ?_)
      · have hd := if_t c3 hd
        refine lv_iload (pc := 72) hx hb dX0_wides_72 (lv_at hl 3 rfl) ?_
        exact g_iret (WX ct a ρ) hd S hr hlk hH dX0_wides_74
      · have hd := if_n c3 hd
        refine lv_iload (pc := 26) hx hb dX0_wides_26 (lv_at hl 3 rfl) ?_
        refine lv_aload_n (pc := 28) hx hb dX0_wides_28 rfl (lv_at hl 0 rfl) ?_
        refine lv_aload_n (pc := 29) hx hb dX0_wides_29 rfl (lv_at hl 0 rfl) ?_
        refine xg_rings (pc := 30) S hK hH dX0_wides_30 ?_
        refine lv_iload_n (pc := 33) hx hb dX0_wides_33 rfl (lv_at hl 1 rfl) ?_
        obtain ⟨v4, hv4, hd⟩ := bs_bd hd
        refine xq_rings (pc := 34) S hK hH hv4 dX0_wides_34 ?_
        refine lv_aload_n (pc := 35) hx hb dX0_wides_35 rfl (lv_at hl 0 rfl) ?_
        refine xg_middleOf (pc := 36) S hK hH dX0_wides_36 ?_
        refine lv_iload_n (pc := 39) hx hb dX0_wides_39 rfl (lv_at hl 1 rfl) ?_
        obtain ⟨v5, hv5, hd⟩ := bs_bd hd
        refine xl_middleOf (pc := 40) S hK hH hv5 dX0_wides_40 ?_
        refine lv_iload (pc := 41) hx hb dX0_wides_41 (lv_at hl 4 rfl) ?_
        refine lv_aload_n (pc := 43) hx hb dX0_wides_43 rfl (lv_at hl 0 rfl) ?_
        refine xg_rows (pc := 44) S hK hH dX0_wides_44 ?_
        refine lv_iload_n (pc := 47) hx hb dX0_wides_47 rfl (lv_at hl 2 rfl) ?_
        obtain ⟨v6, hv6, hd⟩ := bs_bd hd
        refine xq_rows (pc := 48) S hK hH hv6 dX0_wides_48 ?_
        obtain ⟨v7, hv7, hd⟩ := bs_bd hd
        refine call_X_isSo (pc := 49) S hl hE hK hH q775 hv7 (Nat.add_lt_add_left (bs_ix_lt hv4) 6) (bs_ix_lt hv6) ⟨Nat.le_of_ble_eq_true rfl, Nat.le_of_ble_eq_true rfl⟩ (Nat.le_of_ble_eq_true rfl) dX0_wides_49 ⟨Nat.zero_le _, Nat.zero_le _⟩ ?_
        refine lv_if_eq (pc := 52) (tgt := 62) hx hb dX0_wides_52 (by decide) (fun c8 => ?_) (fun c8 => ?_)
        · have hd := if_t c8 hd
          refine lv_iconst (v := (0 : Int32)) (pc := 62) hx hb dX0_wides_62 (by decide) ?_
          refine lv_ior (pc := 63) hx hb dX0_wides_63 ?_
          obtain ⟨w9, ew9, hd⟩ := bs_let_spec hd
          refine lv_topE (pc := 64) ew9 ?_
          refine lv_istore (pc := 64) (lv' := [(4, .int w9), (0, .ref (ah a 0)), (1, .int a1), (2, .int a2), (5, .int x5)]) hx hb dX0_wides_64 hl (by decide) rfl (fun ls hl => ?_)
          obtain ⟨w10, ew10, hd⟩ := bs_let_spec hd
          refine lv_iinc (pc := 66) (v := w10) (lv' := [(5, .int w10), (4, .int w9), (0, .ref (ah a 0)), (1, .int a1), (2, .int a2)]) hx hb dX0_wides_66 hl (k := 4) rfl (by rw [ew10]; rfl) (by decide) rfl (fun ls hl => ?_)
          refine lv_goto (pc := 69) (tgt := 19) hx hb dX0_wides_69 (by decide) ?_
          exact ih19 st w9 w10 _ _ _ hH (lv_sub hl [2, 3, 4, 1, 0] rfl) hd
        · have hd := if_n c8 hd
          refine lv_iconst (v := (1 : Int32)) (pc := 55) hx hb dX0_wides_55 (by decide) ?_
          refine lv_iload (pc := 56) hx hb dX0_wides_56 (lv_at hl 4 rfl) ?_
          refine lv_ishl (pc := 58) hx hb dX0_wides_58 ?_
          refine lv_goto (pc := 59) (tgt := 63) hx hb dX0_wides_59 (by decide) ?_
          refine lv_ior (pc := 63) hx hb dX0_wides_63 ?_
          obtain ⟨w11, ew11, hd⟩ := bs_let_spec hd
          refine lv_topE (pc := 64) ew11 ?_
          refine lv_istore (pc := 64) (lv' := [(4, .int w11), (0, .ref (ah a 0)), (1, .int a1), (2, .int a2), (5, .int x5)]) hx hb dX0_wides_64 hl (by decide) rfl (fun ls hl => ?_)
          obtain ⟨w12, ew12, hd⟩ := bs_let_spec hd
          refine lv_iinc (pc := 66) (v := w12) (lv' := [(5, .int w12), (4, .int w11), (0, .ref (ah a 0)), (1, .int a1), (2, .int a2)]) hx hb dX0_wides_66 hl (k := 4) rfl (by rw [ew12]; rfl) (by decide) rfl (fun ls hl => ?_)
          refine lv_goto (pc := 69) (tgt := 19) hx hb dX0_wides_69 (by decide) ?_
          exact ih19 st w11 w12 _ _ _ hH (lv_sub hl [2, 3, 4, 1, 0] rfl) hd
  unfold X_wides at hd
  refine lv_aload_n (pc := 0) hx hb dX0_wides_0 rfl (lv_at hl 0 rfl) ?_
  refine lv_iload_n (pc := 1) hx hb dX0_wides_1 rfl (lv_at hl 1 rfl) ?_
  refine lv_iload_n (pc := 2) hx hb dX0_wides_2 rfl (lv_at hl 2 rfl) ?_
  obtain ⟨q1, hq1, hd⟩ := bs_bd hd
  refine call_X_askedCells (pc := 3) S hl hE hK hH q771 hq1 ⟨Nat.le_of_ble_eq_true rfl, Nat.le_of_ble_eq_true rfl⟩ (Nat.le_of_ble_eq_true rfl) dX0_wides_3 ⟨Nat.zero_le _, Nat.zero_le _⟩ (fun H locs hH => ?_)
  refine lv_istore_n (pc := 6) (lv' := [(3, .int q1.2), (0, .ref (ah a 0)), (1, .int a1), (2, .int a2)]) hx hb dX0_wides_6 rfl hl (by decide) rfl (fun ls hl => ?_)
  refine lv_iload_n (pc := 7) hx hb dX0_wides_7 rfl (lv_at hl 0 rfl) ?_
  refine lv_if_ge (pc := 8) (tgt := 13) hx hb dX0_wides_8 (by decide) (fun c2 => ?_) (fun c2 => ?_)
  · have hd := if_t c2 hd
    refine lv_iconst (v := (0 : Int32)) (pc := 13) hx hb dX0_wides_13 (by decide) ?_
    refine lv_istore (pc := 14) (lv' := [(4, .int (0 : Int32)), (3, .int q1.2), (0, .ref (ah a 0)), (1, .int a1), (2, .int a2)]) hx hb dX0_wides_14 hl (by decide) rfl (fun ls hl => ?_)
    refine lv_iconst (v := (0 : Int32)) (pc := 16) hx hb dX0_wides_16 (by decide) ?_
    refine lv_istore (pc := 17) (lv' := [(5, .int (0 : Int32)), (4, .int (0 : Int32)), (3, .int q1.2), (0, .ref (ah a 0)), (1, .int a1), (2, .int a2)]) hx hb dX0_wides_17 hl (by decide) rfl (fun ls hl => ?_)
    exact h19 bs_fu q1.1 (0 : Int32) (0 : Int32) _ _ _ hH (lv_sub hl [3, 4, 5, 1, 0] rfl) hd
  · have hd := if_n c2 hd
    refine lv_iload_n (pc := 11) hx hb dX0_wides_11 rfl (lv_at hl 0 rfl) ?_
    exact g_iret (WX ct a ρ) hd S hr hlk hH dX0_wides_12
section CR_X_wides
variable {p : Program} {l : Launch} {e : Env} {R : Room} {s : State} {m : MethodId} {args : Array Value} {below : List Frame} {meth : Method} {c : Code} {H : Heap} {locs : List Loc} {cells slots : Nat} {Q : State → Prop}
variable {cc : ByteArray} {pc nL idx : Nat} {ls : Array Slot} {rest : List Value} {lv : List (Nat × Value)} {A : Nat → Prop} {H0 : Heap} {own : String}
theorem call_X_wides {D : va_G} {ct : Nat → ClassId} {a : XA} {ρ : Option Nat} {st : XS} {a1 : Int32} {a2 : Int32} {z : (XS × Int32)} (S : CallFix p m c cc nL s args lw_all own) (hl : lv_has ls nL lv) (hE : gEX s) (hK : va_K D clA (tysG ct) s) (hH : GH D A (xAs a) H0 (WX ct a ρ st) H locs) (hlk : Cond.methodLink own idx yX0_wides ∈ lw_all) (hv : X_wides st a1 a2 = some z) (hR : 6 ≤ R.frames ∧ 171 ≤ R.locals) (hsum : (rest.map fun v => v.category).sum ≤ 8) (hdg : decode cc pc = .ok (.invokevirtual idx, 3)) (hf : cells ≤ R.cells ∧ slots ≤ R.slots)
    (k : ∀ (H1 : Heap) (locs1 : List Loc), GH D A (xAs a) H0 (WX ct a ρ z.1) H1 locs1 → W p l e R s m args below meth c H1 locs1 cells slots Q (F0 m (pc + 3) ls (.int z.2 :: rest))) : W p l e R s m args below meth c H locs cells slots Q (F0 m pc ls (.int a2 :: .int a1 :: .ref (ah a 0) :: rest)) :=
  g_calli (av := [.int a1, .int a2]) S hl gEX_ok hE hK hH (met_X_wides l D ct a ρ H.size st a1 a2 z hv) (lw_V hlk q780 q781 q69 q782) rfl rfl ⟨rfl, by decide, by decide, by show (parseMethodDescriptor yX0_wides.desc).map (fun d => d.parameters.length) = some 2; decide +kernel⟩ hR (x_recv hK hH) (fun _ h => Or.inl h) rfl hsum hdg hf k
end CR_X_wides
/-! CapCouncil.kindsBy (I[I)I -/
def X_kindsBy_L5 (st : XS) (a1 : Int32) (j2 : Nat) : Nat → Int32 → Int32 → Option Int32
  | 0, _, _ => none
  | n + 1, x3, x4 =>
    if (6 : Int32) ≤ x4 then
      (some x3)
    else
      ((bs_ix 6 x4).bind fun v2 =>
      (bs_ld (xa st 1) 5 a1).bind fun v3 =>
      (bs_ld (xa st 2) 5 a1).bind fun v4 =>
      (X_isSo st v2 v3 v4 j2).bind fun v5 =>
      if v5 = 0 then
        (bs_let (x3 ||| (0 : Int32)) fun w7 =>
        bs_let (x4 + (1 : Int32)) fun w8 =>
        X_kindsBy_L5 st a1 j2 n w7 w8)
      else
        (bs_let (x3 ||| ((1 : Int32) <<< (x4 &&& 31))) fun w9 =>
        bs_let (x4 + (1 : Int32)) fun w10 =>
        X_kindsBy_L5 st a1 j2 n w9 w10))
def X_kindsBy (st : XS) (a1 : Int32) (j2 : Nat) : Option Int32 :=
  X_kindsBy_L5 st a1 j2 bs_fu (0 : Int32) (0 : Int32)
def rm_X_kindsBy : Room := { frames := 5, cells := 0, slots := 0, locals := 146 }
set_option maxHeartbeats 4000000 in
set_option maxRecDepth 100000 in
theorem met_X_kindsBy (l : Launch) (D : va_G) (ct : Nat → ClassId) (a : XA) (ρ : Option Nat) (sz : Nat) (st : XS) (a1 : Int32) (j2 : Nat) (hj2 : j2 < 6) (z : Int32) (hd : X_kindsBy st a1 j2 = some z) : Met l yX0_kindsBy (ws_ yX0_kindsBy cX0_kindsBy 5 (some .int)) rm_X_kindsBy (GPre gEX D ct (xAs a) (WX ct a ρ st) sz [.ref (ah a 0), .int a1, va_rf (ar a j2)]) (vp_Si (fun r => r = z)) 0 0 (fun _ => False) := by
  refine g_met (cc := cX0_kindsBy) (maxL := 5) (ret := (some .int)) (by decide) (by simp [lg_sl, va_rf_cat, vc_int, vc_ref, vc_long]) ?_
  intro p e U m args below meth c ls S hr hlk hK hH hE hsz hl
  have S : CallFix p m c cX0_kindsBy 5 U args lw_all RX0 := S
  have hx := S.1
  have hb := S.2.1
  have hl : lv_has ls 5 [(0, .ref (ah a 0)), (1, .int a1), (2, va_rf (ar a j2))] := (by simpa [lv_args, va_rf_cat, vc_int, vc_ref, vc_long] using hl)
  have h5 : ∀ (n5 : Nat) (x3 : Int32) (x4 : Int32) (ls : Array Slot), lv_has ls 5 [(0, .ref (ah a 0)), (1, .int a1), (2, va_rf (ar a j2)), (3, .int x3), (4, .int x4)] → X_kindsBy_L5 st a1 j2 n5 x3 x4 = some z → W p l e rm_X_kindsBy U m args below meth c U.heap [] 0 0 (MQ below (vp_Si (fun r => r = z)) args U 0 0 (fun _ => False)) (F0 m 5 ls []) := by
    intro n5
    induction n5 with
    | zero =>
      intro x3 x4 ls hl hd
      rw [X_kindsBy_L5] at hd
      cases hd
    | succ n5 ih5 =>
      intro x3 x4 ls hl hd
      rw [X_kindsBy_L5] at hd
      refine lv_iload (pc := 5) hx hb dX0_kindsBy_5 (lv_at hl 4 rfl) ?_
      refine lv_bipush (v := (6 : Int32)) (pc := 7) hx hb dX0_kindsBy_7 (by decide) ?_
      refine lv_icmp_ge (pc := 9) (tgt := 56) hx hb dX0_kindsBy_9 (by decide) (fun c1 => ?_) (fun c1 => ?_)
      · have hd := if_t c1 hd
        refine lv_iload_n (pc := 56) hx hb dX0_kindsBy_56 rfl (lv_at hl 3 rfl) ?_
        exact r_iret hd S hr hlk dX0_kindsBy_57
      · have hd := if_n c1 hd
        refine lv_iload_n (pc := 12) hx hb dX0_kindsBy_12 rfl (lv_at hl 3 rfl) ?_
        refine lv_aload_n (pc := 13) hx hb dX0_kindsBy_13 rfl (lv_at hl 0 rfl) ?_
        refine lv_aload_n (pc := 14) hx hb dX0_kindsBy_14 rfl (lv_at hl 0 rfl) ?_
        refine xg_likes (pc := 15) S hK hH dX0_kindsBy_15 ?_
        refine lv_iload (pc := 18) hx hb dX0_kindsBy_18 (lv_at hl 4 rfl) ?_
        obtain ⟨v2, hv2, hd⟩ := bs_bd hd
        refine xq_likes (pc := 20) S hK hH hv2 dX0_kindsBy_20 ?_
        refine lv_aload_n (pc := 21) hx hb dX0_kindsBy_21 rfl (lv_at hl 0 rfl) ?_
        refine xg_middleOf (pc := 22) S hK hH dX0_kindsBy_22 ?_
        refine lv_iload_n (pc := 25) hx hb dX0_kindsBy_25 rfl (lv_at hl 1 rfl) ?_
        obtain ⟨v3, hv3, hd⟩ := bs_bd hd
        refine xl_middleOf (pc := 26) S hK hH hv3 dX0_kindsBy_26 ?_
        refine lv_aload_n (pc := 27) hx hb dX0_kindsBy_27 rfl (lv_at hl 0 rfl) ?_
        refine xg_wideOf (pc := 28) S hK hH dX0_kindsBy_28 ?_
        refine lv_iload_n (pc := 31) hx hb dX0_kindsBy_31 rfl (lv_at hl 1 rfl) ?_
        obtain ⟨v4, hv4, hd⟩ := bs_bd hd
        refine xl_wideOf (pc := 32) S hK hH hv4 dX0_kindsBy_32 ?_
        refine lv_aload_nO (pc := 33) hx hb dX0_kindsBy_33 rfl (lv_at hl 2 rfl) ?_
        obtain ⟨v5, hv5, hd⟩ := bs_bd hd
        refine call_X_isSo (pc := 34) S hl hE hK hH q775 hv5 (Nat.lt_of_lt_of_le (bs_ix_lt hv2) (by decide)) hj2 ⟨Nat.le_of_ble_eq_true rfl, Nat.le_of_ble_eq_true rfl⟩ (Nat.le_of_ble_eq_true rfl) dX0_kindsBy_34 ⟨Nat.zero_le _, Nat.zero_le _⟩ ?_
        refine lv_if_eq (pc := 37) (tgt := 47) hx hb dX0_kindsBy_37 (by decide) (fun c6 => ?_) (fun c6 => ?_)
        · have hd := if_t c6 hd
          refine lv_iconst (v := (0 : Int32)) (pc := 47) hx hb dX0_kindsBy_47 (by decide) ?_
          refine lv_ior (pc := 48) hx hb dX0_kindsBy_48 ?_
          obtain ⟨w7, ew7, hd⟩ := bs_let_spec hd
          refine lv_topE (pc := 49) ew7 ?_
          refine lv_istore_n (pc := 49) (i := 3) (lv' := [(3, .int w7), (0, .ref (ah a 0)), (1, .int a1), (2, va_rf (ar a j2)), (4, .int x4)]) hx hb dX0_kindsBy_49 rfl hl (by decide) (by simp [va_rf_cat, vc_int, vc_ref, vc_long]) (fun ls hl => ?_)
          obtain ⟨w8, ew8, hd⟩ := bs_let_spec hd
          refine lv_iinc (pc := 50) (v := w8) (lv' := [(4, .int w8), (3, .int w7), (0, .ref (ah a 0)), (1, .int a1), (2, va_rf (ar a j2))]) hx hb dX0_kindsBy_50 hl (k := 4) rfl (by rw [ew8]; rfl) (by decide) rfl (fun ls hl => ?_)
          refine lv_goto (pc := 53) (tgt := 5) hx hb dX0_kindsBy_53 (by decide) ?_
          exact ih5 w7 w8 _ (lv_sub hl [2, 3, 4, 1, 0] rfl) hd
        · have hd := if_n c6 hd
          refine lv_iconst (v := (1 : Int32)) (pc := 40) hx hb dX0_kindsBy_40 (by decide) ?_
          refine lv_iload (pc := 41) hx hb dX0_kindsBy_41 (lv_at hl 4 rfl) ?_
          refine lv_ishl (pc := 43) hx hb dX0_kindsBy_43 ?_
          refine lv_goto (pc := 44) (tgt := 48) hx hb dX0_kindsBy_44 (by decide) ?_
          refine lv_ior (pc := 48) hx hb dX0_kindsBy_48 ?_
          obtain ⟨w9, ew9, hd⟩ := bs_let_spec hd
          refine lv_topE (pc := 49) ew9 ?_
          refine lv_istore_n (pc := 49) (i := 3) (lv' := [(3, .int w9), (0, .ref (ah a 0)), (1, .int a1), (2, va_rf (ar a j2)), (4, .int x4)]) hx hb dX0_kindsBy_49 rfl hl (by decide) (by simp [va_rf_cat, vc_int, vc_ref, vc_long]) (fun ls hl => ?_)
          obtain ⟨w10, ew10, hd⟩ := bs_let_spec hd
          refine lv_iinc (pc := 50) (v := w10) (lv' := [(4, .int w10), (3, .int w9), (0, .ref (ah a 0)), (1, .int a1), (2, va_rf (ar a j2))]) hx hb dX0_kindsBy_50 hl (k := 4) rfl (by rw [ew10]; rfl) (by decide) rfl (fun ls hl => ?_)
          refine lv_goto (pc := 53) (tgt := 5) hx hb dX0_kindsBy_53 (by decide) ?_
          exact ih5 w9 w10 _ (lv_sub hl [2, 3, 4, 1, 0] rfl) hd
  unfold X_kindsBy at hd
  refine lv_iconst (v := (0 : Int32)) (pc := 0) hx hb dX0_kindsBy_0 (by decide) ?_
  refine lv_istore_n (pc := 1) (i := 3) (lv' := [(3, .int (0 : Int32)), (0, .ref (ah a 0)), (1, .int a1), (2, va_rf (ar a j2))]) hx hb dX0_kindsBy_1 rfl hl (by decide) (by simp [va_rf_cat, vc_int, vc_ref, vc_long]) (fun ls hl => ?_)
  refine lv_iconst (v := (0 : Int32)) (pc := 2) hx hb dX0_kindsBy_2 (by decide) ?_
  refine lv_istore (pc := 3) (lv' := [(4, .int (0 : Int32)), (3, .int (0 : Int32)), (0, .ref (ah a 0)), (1, .int a1), (2, va_rf (ar a j2))]) hx hb dX0_kindsBy_3 hl (by decide) rfl (fun ls hl => ?_)
  exact h5 bs_fu (0 : Int32) (0 : Int32) _ (lv_sub hl [2, 3, 4, 1, 0] rfl) hd
section CR_X_kindsBy
variable {p : Program} {l : Launch} {e : Env} {R : Room} {s : State} {m : MethodId} {args : Array Value} {below : List Frame} {meth : Method} {c : Code} {H : Heap} {locs : List Loc} {cells slots : Nat} {Q : State → Prop}
variable {cc : ByteArray} {pc nL idx : Nat} {ls : Array Slot} {rest : List Value} {lv : List (Nat × Value)} {A : Nat → Prop} {H0 : Heap} {own : String}
theorem call_X_kindsBy {D : va_G} {ct : Nat → ClassId} {a : XA} {ρ : Option Nat} {st : XS} {a1 : Int32} {j2 : Nat} {z : Int32} (S : CallFix p m c cc nL s args lw_all own) (hl : lv_has ls nL lv) (hE : gEX s) (hK : va_K D clA (tysG ct) s) (hH : GH D A (xAs a) H0 (WX ct a ρ st) H locs) (hlk : Cond.methodLink own idx yX0_kindsBy ∈ lw_all) (hv : X_kindsBy st a1 j2 = some z) (hj2 : j2 < 6) (hR : 6 ≤ R.frames ∧ 170 ≤ R.locals) (hsum : (rest.map fun v => v.category).sum ≤ 8) (hdg : decode cc pc = .ok (.invokevirtual idx, 3)) (hf : cells ≤ R.cells ∧ slots ≤ R.slots)
    (k : W p l e R s m args below meth c H locs cells slots Q (F0 m (pc + 3) ls (.int z :: rest))) : W p l e R s m args below meth c H locs cells slots Q (F0 m pc ls (va_rf (ar a j2) :: .int a1 :: .ref (ah a 0) :: rest)) :=
  r_calli (av := [.int a1, va_rf (ar a j2)]) S hl gEX_ok hE hK hH (met_X_kindsBy l D ct a ρ H.size st a1 j2 hj2 z hv) (lw_V hlk q789 qs27 q69 q790) rfl rfl ⟨rfl, by decide, by decide, by show (parseMethodDescriptor yX0_kindsBy.desc).map (fun d => d.parameters.length) = some 2; decide +kernel⟩ hR (x_recv hK hH) rfl hsum hdg hf k
end CR_X_kindsBy
/-! CapCouncil.kinds (II)I -/
def X_kinds (st : XS) (a1 : Int32) (a2 : Int32) : Option (XS × Int32) :=
  (X_askedCells st a1 a2).bind fun q1 =>
  if 0 ≤ q1.2 then
    ((bs_ix 6 a2).bind fun v3 =>
    (X_kindsBy q1.1 a1 v3).bind fun v4 =>
    some (q1.1, v4))
  else
    (some (q1.1, q1.2))
def rm_X_kinds : Room := { frames := 6, cells := 0, slots := 0, locals := 170 }
set_option maxHeartbeats 4000000 in
set_option maxRecDepth 100000 in
theorem met_X_kinds (l : Launch) (D : va_G) (ct : Nat → ClassId) (a : XA) (ρ : Option Nat) (sz : Nat) (st : XS) (a1 : Int32) (a2 : Int32) (z : (XS × Int32)) (hd : X_kinds st a1 a2 = some z) : Met l yX0_kinds (ws_ yX0_kinds cX0_kinds 4 (some .int)) rm_X_kinds (GPre gEX D ct (xAs a) (WX ct a ρ st) sz [.ref (ah a 0), .int a1, .int a2]) (GQi D (xAs a) (xAs a) (WX ct a ρ z.1) sz z.2) 0 0 (gA (xAs a) sz) := by
  refine g_met (cc := cX0_kinds) (maxL := 4) (ret := (some .int)) (by decide) (Nat.le_of_ble_eq_true rfl) ?_
  intro p e U m args below meth c ls S hr hlk hK hH hE hsz hl
  have S : CallFix p m c cX0_kinds 4 U args lw_all RX0 := S
  have hx := S.1
  have hb := S.2.1
  have hl : lv_has ls 4 [(0, .ref (ah a 0)), (1, .int a1), (2, .int a2)] := hl
  unfold X_kinds at hd
  refine lv_aload_n (pc := 0) hx hb dX0_kinds_0 rfl (lv_at hl 0 rfl) ?_
  refine lv_iload_n (pc := 1) hx hb dX0_kinds_1 rfl (lv_at hl 1 rfl) ?_
  refine lv_iload_n (pc := 2) hx hb dX0_kinds_2 rfl (lv_at hl 2 rfl) ?_
  obtain ⟨q1, hq1, hd⟩ := bs_bd hd
  refine call_X_askedCells (pc := 3) S hl hE hK hH q771 hq1 ⟨Nat.le_of_ble_eq_true rfl, Nat.le_of_ble_eq_true rfl⟩ (Nat.le_of_ble_eq_true rfl) dX0_kinds_3 ⟨Nat.zero_le _, Nat.zero_le _⟩ (fun H locs hH => ?_)
  refine lv_istore_n (pc := 6) (lv' := [(3, .int q1.2), (0, .ref (ah a 0)), (1, .int a1), (2, .int a2)]) hx hb dX0_kinds_6 rfl hl (by decide) rfl (fun ls hl => ?_)
  refine lv_iload_n (pc := 7) hx hb dX0_kinds_7 rfl (lv_at hl 0 rfl) ?_
  refine lv_if_ge (pc := 8) (tgt := 15) hx hb dX0_kinds_8 (by decide) (fun c2 => ?_) (fun c2 => ?_)
  · have hd := if_t c2 hd
    refine lv_aload_n (pc := 15) hx hb dX0_kinds_15 rfl (lv_at hl 1 rfl) ?_
    refine lv_iload_n (pc := 16) hx hb dX0_kinds_16 rfl (lv_at hl 2 rfl) ?_
    refine lv_aload_n (pc := 17) hx hb dX0_kinds_17 rfl (lv_at hl 1 rfl) ?_
    refine xg_rows (pc := 18) S hK hH dX0_kinds_18 ?_
    refine lv_iload_n (pc := 21) hx hb dX0_kinds_21 rfl (lv_at hl 3 rfl) ?_
    obtain ⟨v3, hv3, hd⟩ := bs_bd hd
    refine xq_rows (pc := 22) S hK hH hv3 dX0_kinds_22 ?_
    obtain ⟨v4, hv4, hd⟩ := bs_bd hd
    refine call_X_kindsBy (pc := 23) S hl hE hK hH q787 hv4 (bs_ix_lt hv3) ⟨Nat.le_of_ble_eq_true rfl, Nat.le_of_ble_eq_true rfl⟩ (Nat.le_of_ble_eq_true rfl) dX0_kinds_23 ⟨Nat.zero_le _, Nat.zero_le _⟩ ?_
    exact g_iret (WX ct a ρ) hd S hr hlk hH dX0_kinds_26
  · have hd := if_n c2 hd
    refine lv_iload_n (pc := 11) hx hb dX0_kinds_11 rfl (lv_at hl 0 rfl) ?_
    refine lv_goto (pc := 12) (tgt := 26) hx hb dX0_kinds_12 (by decide) ?_
    exact g_iret (WX ct a ρ) hd S hr hlk hH dX0_kinds_26
section CR_X_kinds
variable {p : Program} {l : Launch} {e : Env} {R : Room} {s : State} {m : MethodId} {args : Array Value} {below : List Frame} {meth : Method} {c : Code} {H : Heap} {locs : List Loc} {cells slots : Nat} {Q : State → Prop}
variable {cc : ByteArray} {pc nL idx : Nat} {ls : Array Slot} {rest : List Value} {lv : List (Nat × Value)} {A : Nat → Prop} {H0 : Heap} {own : String}
theorem call_X_kinds {D : va_G} {ct : Nat → ClassId} {a : XA} {ρ : Option Nat} {st : XS} {a1 : Int32} {a2 : Int32} {z : (XS × Int32)} (S : CallFix p m c cc nL s args lw_all own) (hl : lv_has ls nL lv) (hE : gEX s) (hK : va_K D clA (tysG ct) s) (hH : GH D A (xAs a) H0 (WX ct a ρ st) H locs) (hlk : Cond.methodLink own idx yX0_kinds ∈ lw_all) (hv : X_kinds st a1 a2 = some z) (hR : 7 ≤ R.frames ∧ 193 ≤ R.locals) (hsum : (rest.map fun v => v.category).sum ≤ 8) (hdg : decode cc pc = .ok (.invokevirtual idx, 3)) (hf : cells ≤ R.cells ∧ slots ≤ R.slots)
    (k : ∀ (H1 : Heap) (locs1 : List Loc), GH D A (xAs a) H0 (WX ct a ρ z.1) H1 locs1 → W p l e R s m args below meth c H1 locs1 cells slots Q (F0 m (pc + 3) ls (.int z.2 :: rest))) : W p l e R s m args below meth c H locs cells slots Q (F0 m pc ls (.int a2 :: .int a1 :: .ref (ah a 0) :: rest)) :=
  g_calli (av := [.int a1, .int a2]) S hl gEX_ok hE hK hH (met_X_kinds l D ct a ρ H.size st a1 a2 z hv) (lw_V hlk q784 q785 q69 q786) rfl rfl ⟨rfl, by decide, by decide, by show (parseMethodDescriptor yX0_kinds.desc).map (fun d => d.parameters.length) = some 2; decide +kernel⟩ hR (x_recv hK hH) (fun _ h => Or.inl h) rfl hsum hdg hf k
end CR_X_kinds
/-! CapCouncil.test (II)I -/
def X_test_J138 (k45 : XS → Int32 → Int32 → Int32 → Int32 → Int32 → Option (XS × Int32)) (a1 : Int32) (a2 : Int32) (st : XS) (x4 : Int32) (x5 : Int32) (x7 : Int32) (x8 : Int32) (x10 : Int32) (y0 : Int32) : Option (XS × Int32) :=
  (J9_min x7 x10).bind fun v23 =>
  bs_let (x8 + (1 : Int32)) fun w24 =>
  k45 st x4 x5 y0 v23 w24
def X_test_J112 (k45 : XS → Int32 → Int32 → Int32 → Int32 → Int32 → Option (XS × Int32)) (a1 : Int32) (a2 : Int32) (st : XS) (x4 : Int32) (x5 : Int32) (x6 : Int32) (x7 : Int32) (x8 : Int32) (x9 : Int32) : Option (XS × Int32) :=
  (J9_max x9 (x5 - x9)).bind fun v21 =>
  if x7 ≤ v21 then
    (X_test_J138 (k45) a1 a2 st x4 x5 x7 x8 v21 x6)
  else
    (X_test_J138 (k45) a1 a2 st x4 x5 x7 x8 v21 x8)
def X_test_L63 (k112 : XS → Int32 → Int32 → Int32 → Int32 → Int32 → Int32 → Option (XS × Int32)) (a1 : Int32) (a2 : Int32) : Nat → XS → Int32 → Int32 → Int32 → Int32 → Int32 → Int32 → Int32 → Option (XS × Int32)
  | 0, _, _, _, _, _, _, _, _ => none
  | n + 1, st, x4, x5, x6, x7, x8, x9, x10 =>
    if (6 : Int32) ≤ x10 then
      (k112 st x4 x5 x6 x7 x8 x9)
    else
      ((X_has x4 x10).bind fun v11 =>
      if v11 = 0 then
        (bs_let (x9 + (0 : Int32)) fun w13 =>
        bs_let (x10 + (1 : Int32)) fun w14 =>
        X_test_L63 k112 a1 a2 n st x4 x5 x6 x7 x8 w13 w14)
      else
        ((X_holds st a1 x10 x8 (xi st 7)).bind fun v15 =>
        if v15 = 0 then
          (bs_let (x9 + (0 : Int32)) fun w17 =>
          bs_let (x10 + (1 : Int32)) fun w18 =>
          X_test_L63 k112 a1 a2 n st x4 x5 x6 x7 x8 w17 w18)
        else
          (bs_let (x9 + (1 : Int32)) fun w19 =>
          bs_let (x10 + (1 : Int32)) fun w20 =>
          X_test_L63 k112 a1 a2 n st x4 x5 x6 x7 x8 w19 w20)))
def X_test_L45 (k155 : XS → Int32 → Int32 → Option (XS × Int32)) (a1 : Int32) (a2 : Int32) : Nat → XS → Int32 → Int32 → Int32 → Int32 → Int32 → Option (XS × Int32)
  | 0, _, _, _, _, _, _ => none
  | n + 1, st, x4, x5, x6, x7, x8 =>
    if (100 : Int32) ≤ x8 then
      (k155 st x6 x7)
    else
      (if x4 = 0 then
        (k155 st x6 x7)
      else
        (X_test_L63 (X_test_J112 (X_test_L45 k155 a1 a2 n) a1 a2) a1 a2 bs_fu st x4 x5 x6 x7 x8 (0 : Int32) (0 : Int32)))
def X_test_J155 (a1 : Int32) (a2 : Int32) (st : XS) (x6 : Int32) (x7 : Int32) : Option (XS × Int32) :=
  if x6 = (-9 : Int32) then
    (some (st, (-9 : Int32)))
  else
    ((X_ask st x7 x6).bind fun q9 =>
    some (q9.1, q9.2))
def X_test (st : XS) (a1 : Int32) (a2 : Int32) : Option (XS × Int32) :=
  (X_askedCells st a1 a2).bind fun q1 =>
  if 0 ≤ q1.2 then
    ((bs_ix 6 a2).bind fun v3 =>
    (X_kindsBy q1.1 a1 v3).bind fun v4 =>
    (J11_bitCount v4).bind fun v5 =>
    X_test_L45 (X_test_J155 a1 a2) a1 a2 bs_fu q1.1 v4 v5 (-9 : Int32) (1048576 : Int32) (0 : Int32))
  else
    (some (q1.1, q1.2))
def rm_X_test : Room := { frames := 6, cells := 0, slots := 0, locals := 170 }
set_option maxHeartbeats 4000000 in
set_option maxRecDepth 100000 in
theorem met_X_test (l : Launch) (D : va_G) (ct : Nat → ClassId) (a : XA) (ρ : Option Nat) (sz : Nat) (st : XS) (a1 : Int32) (a2 : Int32) (z : (XS × Int32)) (hd : X_test st a1 a2 = some z) : Met l yX0_test (ws_ yX0_test cX0_test 11 (some .int)) rm_X_test (GPre gEX D ct (xAs a) (WX ct a ρ st) sz [.ref (ah a 0), .int a1, .int a2]) (GQi D (xAs a) (xAs a) (WX ct a ρ z.1) sz z.2) 0 0 (gA (xAs a) sz) := by
  refine g_met (cc := cX0_test) (maxL := 11) (ret := (some .int)) (by decide) (Nat.le_of_ble_eq_true rfl) ?_
  intro p e U m args below meth c ls S hr hlk hK hH hE hsz hl
  have S : CallFix p m c cX0_test 11 U args lw_all RX0 := S
  have hx := S.1
  have hb := S.2.1
  have hl : lv_has ls 11 [(0, .ref (ah a 0)), (1, .int a1), (2, .int a2)] := hl
  have h155 : ∀ (st : XS) (x6 : Int32) (x7 : Int32) (H : Heap) (locs : List Loc) (ls : Array Slot), GH D (gA (xAs a) sz) (xAs a) U.heap (WX ct a ρ st) H locs → lv_has ls 11 [(0, .ref (ah a 0)), (1, .int a1), (2, .int a2), (6, .int x6), (7, .int x7)] → X_test_J155 a1 a2 st x6 x7 = some z → W p l e rm_X_test U m args below meth c H locs 0 0 (MQ below (GQi D (xAs a) (xAs a) (WX ct a ρ z.1) sz z.2) args U 0 0 (gA (xAs a) sz)) (F0 m 155 ls []) := by
    intro st x6 x7 H locs ls hH hl hd
    unfold X_test_J155 at hd
    refine lv_iload (pc := 155) hx hb dX0_test_155 (lv_at hl 3 rfl) ?_
    refine lv_bipush (v := (-9 : Int32)) (pc := 157) hx hb dX0_test_157 (by decide) ?_
    refine lv_icmp_ne (pc := 159) (tgt := 167) hx hb dX0_test_159 (by decide) (fun c8 => ?_) (fun c8 => ?_)
    · have hd := if_n c8 hd
      refine lv_aload_n (pc := 167) hx hb dX0_test_167 rfl (lv_at hl 0 rfl) ?_
      refine lv_iload (pc := 168) hx hb dX0_test_168 (lv_at hl 4 rfl) ?_
      refine lv_iload (pc := 170) hx hb dX0_test_170 (lv_at hl 3 rfl) ?_
      obtain ⟨q9, hq9, hd⟩ := bs_bd hd
      refine call_X_ask (pc := 172) S hl hE hK hH q344 hq9 ⟨Nat.le_of_ble_eq_true rfl, Nat.le_of_ble_eq_true rfl⟩ (Nat.le_of_ble_eq_true rfl) dX0_test_172 ⟨Nat.zero_le _, Nat.zero_le _⟩ (fun H locs hH => ?_)
      exact g_iret (WX ct a ρ) hd S hr hlk hH dX0_test_175
    · have hd := if_t c8 hd
      refine lv_bipush (v := (-9 : Int32)) (pc := 162) hx hb dX0_test_162 (by decide) ?_
      refine lv_goto (pc := 164) (tgt := 175) hx hb dX0_test_164 (by decide) ?_
      exact g_iret (WX ct a ρ) hd S hr hlk hH dX0_test_175
  have h45 : ∀ (n45 : Nat) (st : XS) (x4 : Int32) (x5 : Int32) (x6 : Int32) (x7 : Int32) (x8 : Int32) (H : Heap) (locs : List Loc) (ls : Array Slot), GH D (gA (xAs a) sz) (xAs a) U.heap (WX ct a ρ st) H locs → lv_has ls 11 [(0, .ref (ah a 0)), (1, .int a1), (2, .int a2), (4, .int x4), (5, .int x5), (6, .int x6), (7, .int x7), (8, .int x8)] → X_test_L45 (X_test_J155 a1 a2) a1 a2 n45 st x4 x5 x6 x7 x8 = some z → W p l e rm_X_test U m args below meth c H locs 0 0 (MQ below (GQi D (xAs a) (xAs a) (WX ct a ρ z.1) sz z.2) args U 0 0 (gA (xAs a) sz)) (F0 m 45 ls []) := by
    intro n45
    induction n45 with
    | zero =>
      intro st x4 x5 x6 x7 x8 H locs ls hH hl hd
      rw [X_test_L45] at hd
      cases hd
    | succ n45 ih45 =>
      have h138 : ∀ (st : XS) (x4 : Int32) (x5 : Int32) (x7 : Int32) (x8 : Int32) (x10 : Int32) (y0 : Int32) (H : Heap) (locs : List Loc) (ls : Array Slot), GH D (gA (xAs a) sz) (xAs a) U.heap (WX ct a ρ st) H locs → lv_has ls 11 [(0, .ref (ah a 0)), (1, .int a1), (2, .int a2), (4, .int x4), (5, .int x5), (7, .int x7), (8, .int x8), (10, .int x10)] → X_test_J138 (X_test_L45 (X_test_J155 a1 a2) a1 a2 n45) a1 a2 st x4 x5 x7 x8 x10 y0 = some z → W p l e rm_X_test U m args below meth c H locs 0 0 (MQ below (GQi D (xAs a) (xAs a) (WX ct a ρ z.1) sz z.2) args U 0 0 (gA (xAs a) sz)) (F0 m 138 ls [.int y0]) := by
        intro st x4 x5 x7 x8 x10 y0 H locs ls hH hl hd
        unfold X_test_J138 at hd
        refine lv_istore (pc := 138) (lv' := [(6, .int y0), (0, .ref (ah a 0)), (1, .int a1), (2, .int a2), (4, .int x4), (5, .int x5), (7, .int x7), (8, .int x8), (10, .int x10)]) hx hb dX0_test_138 hl (by decide) rfl (fun ls hl => ?_)
        refine lv_iload (pc := 140) hx hb dX0_test_140 (lv_at hl 6 rfl) ?_
        refine lv_iload (pc := 142) hx hb dX0_test_142 (lv_at hl 8 rfl) ?_
        obtain ⟨v23, hv23, hd⟩ := bs_bd hd
        refine call_J9_min (pc := 144) S hl q513 hv23 ⟨Nat.le_of_ble_eq_true rfl, Nat.le_of_ble_eq_true rfl⟩ (Nat.le_of_ble_eq_true rfl) dX0_test_144 ⟨Nat.zero_le _, Nat.zero_le _⟩ ?_
        refine lv_istore (pc := 147) (lv' := [(7, .int v23), (6, .int y0), (0, .ref (ah a 0)), (1, .int a1), (2, .int a2), (4, .int x4), (5, .int x5), (8, .int x8), (10, .int x10)]) hx hb dX0_test_147 hl (by decide) rfl (fun ls hl => ?_)
        obtain ⟨w24, ew24, hd⟩ := bs_let_spec hd
        refine lv_iinc (pc := 149) (v := w24) (lv' := [(8, .int w24), (7, .int v23), (6, .int y0), (0, .ref (ah a 0)), (1, .int a1), (2, .int a2), (4, .int x4), (5, .int x5), (10, .int x10)]) hx hb dX0_test_149 hl (k := 7) rfl (by rw [ew24]; rfl) (by decide) rfl (fun ls hl => ?_)
        refine lv_goto (pc := 152) (tgt := 45) hx hb dX0_test_152 (by decide) ?_
        exact ih45 st x4 x5 y0 v23 w24 _ _ _ hH (lv_sub hl [3, 4, 5, 6, 7, 2, 1, 0] rfl) hd
      have h112 : ∀ (st : XS) (x4 : Int32) (x5 : Int32) (x6 : Int32) (x7 : Int32) (x8 : Int32) (x9 : Int32) (H : Heap) (locs : List Loc) (ls : Array Slot), GH D (gA (xAs a) sz) (xAs a) U.heap (WX ct a ρ st) H locs → lv_has ls 11 [(0, .ref (ah a 0)), (1, .int a1), (2, .int a2), (4, .int x4), (5, .int x5), (6, .int x6), (7, .int x7), (8, .int x8), (9, .int x9)] → X_test_J112 (X_test_L45 (X_test_J155 a1 a2) a1 a2 n45) a1 a2 st x4 x5 x6 x7 x8 x9 = some z → W p l e rm_X_test U m args below meth c H locs 0 0 (MQ below (GQi D (xAs a) (xAs a) (WX ct a ρ z.1) sz z.2) args U 0 0 (gA (xAs a) sz)) (F0 m 112 ls []) := by
        intro st x4 x5 x6 x7 x8 x9 H locs ls hH hl hd
        unfold X_test_J112 at hd
        refine lv_iload (pc := 112) hx hb dX0_test_112 (lv_at hl 8 rfl) ?_
        refine lv_iload (pc := 114) hx hb dX0_test_114 (lv_at hl 4 rfl) ?_
        refine lv_iload (pc := 116) hx hb dX0_test_116 (lv_at hl 8 rfl) ?_
        refine lv_isub (pc := 118) hx hb dX0_test_118 ?_
        obtain ⟨v21, hv21, hd⟩ := bs_bd hd
        refine call_J9_max (pc := 119) S hl q739 hv21 ⟨Nat.le_of_ble_eq_true rfl, Nat.le_of_ble_eq_true rfl⟩ (Nat.le_of_ble_eq_true rfl) dX0_test_119 ⟨Nat.zero_le _, Nat.zero_le _⟩ ?_
        refine lv_istore (pc := 122) (lv' := [(10, .int v21), (0, .ref (ah a 0)), (1, .int a1), (2, .int a2), (4, .int x4), (5, .int x5), (6, .int x6), (7, .int x7), (8, .int x8), (9, .int x9)]) hx hb dX0_test_122 hl (by decide) rfl (fun ls hl => ?_)
        refine lv_iload (pc := 124) hx hb dX0_test_124 (lv_at hl 0 rfl) ?_
        refine lv_iload (pc := 126) hx hb dX0_test_126 (lv_at hl 7 rfl) ?_
        refine lv_icmp_ge (pc := 128) (tgt := 136) hx hb dX0_test_128 (by decide) (fun c22 => ?_) (fun c22 => ?_)
        · have hd := if_t c22 hd
          refine lv_iload (pc := 136) hx hb dX0_test_136 (lv_at hl 6 rfl) ?_
          exact h138 st x4 x5 x7 x8 v21 x6 _ _ _ hH (lv_sub hl [1, 2, 3, 4, 5, 7, 8, 0] rfl) hd
        · have hd := if_n c22 hd
          refine lv_iload (pc := 131) hx hb dX0_test_131 (lv_at hl 8 rfl) ?_
          refine lv_goto (pc := 133) (tgt := 138) hx hb dX0_test_133 (by decide) ?_
          exact h138 st x4 x5 x7 x8 v21 x8 _ _ _ hH (lv_sub hl [1, 2, 3, 4, 5, 7, 8, 0] rfl) hd
      have h63 : ∀ (n63 : Nat) (st : XS) (x4 : Int32) (x5 : Int32) (x6 : Int32) (x7 : Int32) (x8 : Int32) (x9 : Int32) (x10 : Int32) (H : Heap) (locs : List Loc) (ls : Array Slot), GH D (gA (xAs a) sz) (xAs a) U.heap (WX ct a ρ st) H locs → lv_has ls 11 [(0, .ref (ah a 0)), (1, .int a1), (2, .int a2), (4, .int x4), (5, .int x5), (6, .int x6), (7, .int x7), (8, .int x8), (9, .int x9), (10, .int x10)] → X_test_L63 (X_test_J112 (X_test_L45 (X_test_J155 a1 a2) a1 a2 n45) a1 a2) a1 a2 n63 st x4 x5 x6 x7 x8 x9 x10 = some z → W p l e rm_X_test U m args below meth c H locs 0 0 (MQ below (GQi D (xAs a) (xAs a) (WX ct a ρ z.1) sz z.2) args U 0 0 (gA (xAs a) sz)) (F0 m 63 ls []) := by
        intro n63
        induction n63 with
        | zero =>
          intro st x4 x5 x6 x7 x8 x9 x10 H locs ls hH hl hd
          rw [X_test_L63] at hd
          cases hd
        | succ n63 ih63 =>
          intro st x4 x5 x6 x7 x8 x9 x10 H locs ls hH hl hd
          rw [X_test_L63] at hd
          refine lv_iload (pc := 63) hx hb dX0_test_63 (lv_at hl 9 rfl) ?_
          refine lv_bipush (v := (6 : Int32)) (pc := 65) hx hb dX0_test_65 (by decide) ?_
          refine lv_icmp_ge (pc := 67) (tgt := 112) hx hb dX0_test_67 (by decide) (fun c10 => ?_) (fun c10 => ?_)
          · have hd := if_t c10 hd
            exact h112 st x4 x5 x6 x7 x8 x9 _ _ _ hH (lv_sub hl [0, 1, 2, 3, 4, 5, 6, 7, 8] rfl) hd
          · have hd := if_n c10 hd
            refine lv_iload (pc := 70) hx hb dX0_test_70 (lv_at hl 8 rfl) ?_
            refine lv_iload (pc := 72) hx hb dX0_test_72 (lv_at hl 3 rfl) ?_
            refine lv_iload (pc := 74) hx hb dX0_test_74 (lv_at hl 9 rfl) ?_
            obtain ⟨v11, hv11, hd⟩ := bs_bd hd
            refine call_X_has (pc := 76) S hl q520 hv11 ⟨Nat.le_of_ble_eq_true rfl, Nat.le_of_ble_eq_true rfl⟩ (Nat.le_of_ble_eq_true rfl) dX0_test_76 ⟨Nat.zero_le _, Nat.zero_le _⟩ ?_
            refine lv_if_eq (pc := 79) (tgt := 102) hx hb dX0_test_79 (by decide) (fun c12 => ?_) (fun c12 => ?_)
            · have hd := if_t c12 hd
              refine lv_iconst (v := (0 : Int32)) (pc := 102) hx hb dX0_test_102 (by decide) ?_
              refine lv_iadd (pc := 103) hx hb dX0_test_103 ?_
              obtain ⟨w13, ew13, hd⟩ := bs_let_spec hd
              refine lv_topE (pc := 104) ew13 ?_
              refine lv_istore (pc := 104) (lv' := [(9, .int w13), (0, .ref (ah a 0)), (1, .int a1), (2, .int a2), (4, .int x4), (5, .int x5), (6, .int x6), (7, .int x7), (8, .int x8), (10, .int x10)]) hx hb dX0_test_104 hl (by decide) rfl (fun ls hl => ?_)
              obtain ⟨w14, ew14, hd⟩ := bs_let_spec hd
              refine lv_iinc (pc := 106) (v := w14) (lv' := [(10, .int w14), (9, .int w13), (0, .ref (ah a 0)), (1, .int a1), (2, .int a2), (4, .int x4), (5, .int x5), (6, .int x6), (7, .int x7), (8, .int x8)]) hx hb dX0_test_106 hl (k := 9) rfl (by rw [ew14]; rfl) (by decide) rfl (fun ls hl => ?_)
              refine lv_goto (pc := 109) (tgt := 63) hx hb dX0_test_109 (by decide) ?_
              exact ih63 st x4 x5 x6 x7 x8 w13 w14 _ _ _ hH (lv_sub hl [2, 3, 4, 5, 6, 7, 8, 9, 1, 0] rfl) hd
            · have hd := if_n c12 hd
              refine lv_aload_n (pc := 82) hx hb dX0_test_82 rfl (lv_at hl 0 rfl) ?_
              refine lv_iload_n (pc := 83) hx hb dX0_test_83 rfl (lv_at hl 1 rfl) ?_
              refine lv_iload (pc := 84) hx hb dX0_test_84 (lv_at hl 9 rfl) ?_
              refine lv_iload (pc := 86) hx hb dX0_test_86 (lv_at hl 7 rfl) ?_
              refine lv_aload_n (pc := 88) hx hb dX0_test_88 rfl (lv_at hl 0 rfl) ?_
              refine xg_yearNow (pc := 89) S hK hH dX0_test_89 ?_
              obtain ⟨v15, hv15, hd⟩ := bs_bd hd
              refine call_X_holds (pc := 92) S hl hE hK hH q795 hv15 ⟨Nat.le_of_ble_eq_true rfl, Nat.le_of_ble_eq_true rfl⟩ (Nat.le_of_ble_eq_true rfl) dX0_test_92 ⟨Nat.zero_le _, Nat.zero_le _⟩ ?_
              refine lv_if_eq (pc := 95) (tgt := 102) hx hb dX0_test_95 (by decide) (fun c16 => ?_) (fun c16 => ?_)
              · have hd := if_t c16 hd
                refine lv_iconst (v := (0 : Int32)) (pc := 102) hx hb dX0_test_102 (by decide) ?_
                refine lv_iadd (pc := 103) hx hb dX0_test_103 ?_
                obtain ⟨w17, ew17, hd⟩ := bs_let_spec hd
                refine lv_topE (pc := 104) ew17 ?_
                refine lv_istore (pc := 104) (lv' := [(9, .int w17), (0, .ref (ah a 0)), (1, .int a1), (2, .int a2), (4, .int x4), (5, .int x5), (6, .int x6), (7, .int x7), (8, .int x8), (10, .int x10)]) hx hb dX0_test_104 hl (by decide) rfl (fun ls hl => ?_)
                obtain ⟨w18, ew18, hd⟩ := bs_let_spec hd
                refine lv_iinc (pc := 106) (v := w18) (lv' := [(10, .int w18), (9, .int w17), (0, .ref (ah a 0)), (1, .int a1), (2, .int a2), (4, .int x4), (5, .int x5), (6, .int x6), (7, .int x7), (8, .int x8)]) hx hb dX0_test_106 hl (k := 9) rfl (by rw [ew18]; rfl) (by decide) rfl (fun ls hl => ?_)
                refine lv_goto (pc := 109) (tgt := 63) hx hb dX0_test_109 (by decide) ?_
                exact ih63 st x4 x5 x6 x7 x8 w17 w18 _ _ _ hH (lv_sub hl [2, 3, 4, 5, 6, 7, 8, 9, 1, 0] rfl) hd
              · have hd := if_n c16 hd
                refine lv_iconst (v := (1 : Int32)) (pc := 98) hx hb dX0_test_98 (by decide) ?_
                refine lv_goto (pc := 99) (tgt := 103) hx hb dX0_test_99 (by decide) ?_
                refine lv_iadd (pc := 103) hx hb dX0_test_103 ?_
                obtain ⟨w19, ew19, hd⟩ := bs_let_spec hd
                refine lv_topE (pc := 104) ew19 ?_
                refine lv_istore (pc := 104) (lv' := [(9, .int w19), (0, .ref (ah a 0)), (1, .int a1), (2, .int a2), (4, .int x4), (5, .int x5), (6, .int x6), (7, .int x7), (8, .int x8), (10, .int x10)]) hx hb dX0_test_104 hl (by decide) rfl (fun ls hl => ?_)
                obtain ⟨w20, ew20, hd⟩ := bs_let_spec hd
                refine lv_iinc (pc := 106) (v := w20) (lv' := [(10, .int w20), (9, .int w19), (0, .ref (ah a 0)), (1, .int a1), (2, .int a2), (4, .int x4), (5, .int x5), (6, .int x6), (7, .int x7), (8, .int x8)]) hx hb dX0_test_106 hl (k := 9) rfl (by rw [ew20]; rfl) (by decide) rfl (fun ls hl => ?_)
                refine lv_goto (pc := 109) (tgt := 63) hx hb dX0_test_109 (by decide) ?_
                exact ih63 st x4 x5 x6 x7 x8 w19 w20 _ _ _ hH (lv_sub hl [2, 3, 4, 5, 6, 7, 8, 9, 1, 0] rfl) hd
      intro st x4 x5 x6 x7 x8 H locs ls hH hl hd
      rw [X_test_L45] at hd
      refine lv_iload (pc := 45) hx hb dX0_test_45 (lv_at hl 7 rfl) ?_
      refine lv_bipush (v := (100 : Int32)) (pc := 47) hx hb dX0_test_47 (by decide) ?_
      refine lv_icmp_ge (pc := 49) (tgt := 155) hx hb dX0_test_49 (by decide) (fun c6 => ?_) (fun c6 => ?_)
      · have hd := if_t c6 hd
        exact h155 st x6 x7 _ _ _ hH (lv_sub hl [0, 1, 2, 5, 6] rfl) hd
      · have hd := if_n c6 hd
        refine lv_iload (pc := 52) hx hb dX0_test_52 (lv_at hl 3 rfl) ?_
        refine lv_if_eq (pc := 54) (tgt := 155) hx hb dX0_test_54 (by decide) (fun c7 => ?_) (fun c7 => ?_)
        · have hd := if_t c7 hd
          exact h155 st x6 x7 _ _ _ hH (lv_sub hl [0, 1, 2, 5, 6] rfl) hd
        · have hd := if_n c7 hd
          refine lv_iconst (v := (0 : Int32)) (pc := 57) hx hb dX0_test_57 (by decide) ?_
          refine lv_istore (pc := 58) (lv' := [(9, .int (0 : Int32)), (0, .ref (ah a 0)), (1, .int a1), (2, .int a2), (4, .int x4), (5, .int x5), (6, .int x6), (7, .int x7), (8, .int x8)]) hx hb dX0_test_58 hl (by decide) rfl (fun ls hl => ?_)
          refine lv_iconst (v := (0 : Int32)) (pc := 60) hx hb dX0_test_60 (by decide) ?_
          refine lv_istore (pc := 61) (lv' := [(10, .int (0 : Int32)), (9, .int (0 : Int32)), (0, .ref (ah a 0)), (1, .int a1), (2, .int a2), (4, .int x4), (5, .int x5), (6, .int x6), (7, .int x7), (8, .int x8)]) hx hb dX0_test_61 hl (by decide) rfl (fun ls hl => ?_)
          exact h63 bs_fu st x4 x5 x6 x7 x8 (0 : Int32) (0 : Int32) _ _ _ hH (lv_sub hl [2, 3, 4, 5, 6, 7, 8, 9, 1, 0] rfl) hd
  unfold X_test at hd
  refine lv_aload_n (pc := 0) hx hb dX0_test_0 rfl (lv_at hl 0 rfl) ?_
  refine lv_iload_n (pc := 1) hx hb dX0_test_1 rfl (lv_at hl 1 rfl) ?_
  refine lv_iload_n (pc := 2) hx hb dX0_test_2 rfl (lv_at hl 2 rfl) ?_
  obtain ⟨q1, hq1, hd⟩ := bs_bd hd
  refine call_X_askedCells (pc := 3) S hl hE hK hH q771 hq1 ⟨Nat.le_of_ble_eq_true rfl, Nat.le_of_ble_eq_true rfl⟩ (Nat.le_of_ble_eq_true rfl) dX0_test_3 ⟨Nat.zero_le _, Nat.zero_le _⟩ (fun H locs hH => ?_)
  refine lv_istore_n (pc := 6) (lv' := [(3, .int q1.2), (0, .ref (ah a 0)), (1, .int a1), (2, .int a2)]) hx hb dX0_test_6 rfl hl (by decide) rfl (fun ls hl => ?_)
  refine lv_iload_n (pc := 7) hx hb dX0_test_7 rfl (lv_at hl 0 rfl) ?_
  refine lv_if_ge (pc := 8) (tgt := 13) hx hb dX0_test_8 (by decide) (fun c2 => ?_) (fun c2 => ?_)
  · have hd := if_t c2 hd
    refine lv_aload_n (pc := 13) hx hb dX0_test_13 rfl (lv_at hl 1 rfl) ?_
    refine lv_iload_n (pc := 14) hx hb dX0_test_14 rfl (lv_at hl 2 rfl) ?_
    refine lv_aload_n (pc := 15) hx hb dX0_test_15 rfl (lv_at hl 1 rfl) ?_
    refine xg_rows (pc := 16) S hK hH dX0_test_16 ?_
    refine lv_iload_n (pc := 19) hx hb dX0_test_19 rfl (lv_at hl 3 rfl) ?_
    obtain ⟨v3, hv3, hd⟩ := bs_bd hd
    refine xq_rows (pc := 20) S hK hH hv3 dX0_test_20 ?_
    obtain ⟨v4, hv4, hd⟩ := bs_bd hd
    refine call_X_kindsBy (pc := 21) S hl hE hK hH q787 hv4 (bs_ix_lt hv3) ⟨Nat.le_of_ble_eq_true rfl, Nat.le_of_ble_eq_true rfl⟩ (Nat.le_of_ble_eq_true rfl) dX0_test_21 ⟨Nat.zero_le _, Nat.zero_le _⟩ ?_
    refine lv_istore (pc := 24) (lv' := [(4, .int v4), (3, .int q1.2), (0, .ref (ah a 0)), (1, .int a1), (2, .int a2)]) hx hb dX0_test_24 hl (by decide) rfl (fun ls hl => ?_)
    refine lv_iload (pc := 26) hx hb dX0_test_26 (lv_at hl 0 rfl) ?_
    obtain ⟨v5, hv5, hd⟩ := bs_bd hd
    refine call_J11_bitCount (pc := 28) S hl q669 hv5 ⟨Nat.le_of_ble_eq_true rfl, Nat.le_of_ble_eq_true rfl⟩ (Nat.le_of_ble_eq_true rfl) dX0_test_28 ⟨Nat.zero_le _, Nat.zero_le _⟩ ?_
    refine lv_istore (pc := 31) (lv' := [(5, .int v5), (4, .int v4), (3, .int q1.2), (0, .ref (ah a 0)), (1, .int a1), (2, .int a2)]) hx hb dX0_test_31 hl (by decide) rfl (fun ls hl => ?_)
    refine lv_bipush (v := (-9 : Int32)) (pc := 33) hx hb dX0_test_33 (by decide) ?_
    refine lv_istore (pc := 35) (lv' := [(6, .int (-9 : Int32)), (5, .int v5), (4, .int v4), (3, .int q1.2), (0, .ref (ah a 0)), (1, .int a1), (2, .int a2)]) hx hb dX0_test_35 hl (by decide) rfl (fun ls hl => ?_)
    refine lv_ldcw (pc := 37) (own := RX0) (v := (1048576 : Int32)) hx hb S.2.2.2.1 (S.2.2.2.2 _ q754) dX0_test_37 ?_
    refine lv_istore (pc := 40) (lv' := [(7, .int (1048576 : Int32)), (6, .int (-9 : Int32)), (5, .int v5), (4, .int v4), (3, .int q1.2), (0, .ref (ah a 0)), (1, .int a1), (2, .int a2)]) hx hb dX0_test_40 hl (by decide) rfl (fun ls hl => ?_)
    refine lv_iconst (v := (0 : Int32)) (pc := 42) hx hb dX0_test_42 (by decide) ?_
    refine lv_istore (pc := 43) (lv' := [(8, .int (0 : Int32)), (7, .int (1048576 : Int32)), (6, .int (-9 : Int32)), (5, .int v5), (4, .int v4), (3, .int q1.2), (0, .ref (ah a 0)), (1, .int a1), (2, .int a2)]) hx hb dX0_test_43 hl (by decide) rfl (fun ls hl => ?_)
    exact h45 bs_fu q1.1 v4 v5 (-9 : Int32) (1048576 : Int32) (0 : Int32) _ _ _ hH (lv_sub hl [6, 7, 8, 4, 3, 2, 1, 0] rfl) hd
  · have hd := if_n c2 hd
    refine lv_iload_n (pc := 11) hx hb dX0_test_11 rfl (lv_at hl 0 rfl) ?_
    exact g_iret (WX ct a ρ) hd S hr hlk hH dX0_test_12
section CR_X_test
variable {p : Program} {l : Launch} {e : Env} {R : Room} {s : State} {m : MethodId} {args : Array Value} {below : List Frame} {meth : Method} {c : Code} {H : Heap} {locs : List Loc} {cells slots : Nat} {Q : State → Prop}
variable {cc : ByteArray} {pc nL idx : Nat} {ls : Array Slot} {rest : List Value} {lv : List (Nat × Value)} {A : Nat → Prop} {H0 : Heap} {own : String}
theorem call_X_test {D : va_G} {ct : Nat → ClassId} {a : XA} {ρ : Option Nat} {st : XS} {a1 : Int32} {a2 : Int32} {z : (XS × Int32)} (S : CallFix p m c cc nL s args lw_all own) (hl : lv_has ls nL lv) (hE : gEX s) (hK : va_K D clA (tysG ct) s) (hH : GH D A (xAs a) H0 (WX ct a ρ st) H locs) (hlk : Cond.methodLink own idx yX0_test ∈ lw_all) (hv : X_test st a1 a2 = some z) (hR : 7 ≤ R.frames ∧ 200 ≤ R.locals) (hsum : (rest.map fun v => v.category).sum ≤ 8) (hdg : decode cc pc = .ok (.invokevirtual idx, 3)) (hf : cells ≤ R.cells ∧ slots ≤ R.slots)
    (k : ∀ (H1 : Heap) (locs1 : List Loc), GH D A (xAs a) H0 (WX ct a ρ z.1) H1 locs1 → W p l e R s m args below meth c H1 locs1 cells slots Q (F0 m (pc + 3) ls (.int z.2 :: rest))) : W p l e R s m args below meth c H locs cells slots Q (F0 m pc ls (.int a2 :: .int a1 :: .ref (ah a 0) :: rest)) :=
  g_calli (av := [.int a1, .int a2]) S hl gEX_ok hE hK hH (met_X_test l D ct a ρ H.size st a1 a2 z hv) (lw_V hlk q792 q793 q69 q794) rfl rfl ⟨rfl, by decide, by decide, by show (parseMethodDescriptor yX0_test.desc).map (fun d => d.parameters.length) = some 2; decide +kernel⟩ hR (x_recv hK hH) (fun _ h => Or.inl h) rfl hsum hdg hf k
end CR_X_test
/-! CapCouncil.tell (JJ)I -/
def X_tell_L6 (k31 : XS → Int64 → Option (XS × Int32)) (a1 : Int64) (a3 : Int64) : Nat → XS → Int64 → Int64 → Option (XS × Int32)
  | 0, _, _, _ => none
  | n + 1, st, x5, x7 =>
    if (lg_cmp x7 (0 : Int64)) = 0 then
      (k31 st x5)
    else
      (bs_nzl x7 <|
      bs_let (x5 - x5 / x7 * x7) fun w3 =>
      X_tell_L6 k31 a1 a3 n st x7 w3)
def X_tell_J31 (a1 : Int64) (a3 : Int64) (st : XS) (x5 : Int64) : Option (XS × Int32) :=
  bs_nzl x5 <|
  bs_let (a1 / x5) fun w5 =>
  bs_let (sxl st 0 w5) fun s6 =>
  bs_nzl x5 <|
  bs_let (a3 / x5) fun w8 =>
  bs_let (sxl s6 1 w8) fun s9 =>
  some (s9, (1 : Int32))
def X_tell (st : XS) (a1 : Int64) (a3 : Int64) : Option (XS × Int32) :=
  X_tell_L6 (X_tell_J31 a1 a3) a1 a3 bs_fu st a1 a3
def rm_X_tell : Room := { frames := 0, cells := 0, slots := 0, locals := 0 }
set_option maxHeartbeats 4000000 in
set_option maxRecDepth 100000 in
theorem met_X_tell (l : Launch) (D : va_G) (ct : Nat → ClassId) (a : XA) (ρ : Option Nat) (sz : Nat) (st : XS) (a1 : Int64) (a3 : Int64) (z : (XS × Int32)) (hd : X_tell st a1 a3 = some z) : Met l yX0_tell (ws_ yX0_tell cX0_tell 11 (some .int)) rm_X_tell (GPre gEX D ct (xAs a) (WX ct a ρ st) sz [.ref (ah a 0), .long a1, .long a3]) (GQi D (xAs a) (xAs a) (WX ct a ρ z.1) sz z.2) 0 0 (gA (xAs a) sz) := by
  refine g_met (cc := cX0_tell) (maxL := 11) (ret := (some .int)) (by decide) (Nat.le_of_ble_eq_true rfl) ?_
  intro p e U m args below meth c ls S hr hlk hK hH hE hsz hl
  have S : CallFix p m c cX0_tell 11 U args lw_all RX0 := S
  have hx := S.1
  have hb := S.2.1
  have hl : lv_has ls 11 [(0, .ref (ah a 0)), (1, .long a1), (3, .long a3)] := hl
  have h31 : ∀ (st : XS) (x5 : Int64) (H : Heap) (locs : List Loc) (ls : Array Slot), GH D (gA (xAs a) sz) (xAs a) U.heap (WX ct a ρ st) H locs → lv_has ls 11 [(0, .ref (ah a 0)), (1, .long a1), (3, .long a3), (5, .long x5)] → X_tell_J31 a1 a3 st x5 = some z → W p l e rm_X_tell U m args below meth c H locs 0 0 (MQ below (GQi D (xAs a) (xAs a) (WX ct a ρ z.1) sz z.2) args U 0 0 (gA (xAs a) sz)) (F0 m 31 ls []) := by
    intro st x5 H locs ls hH hl hd
    unfold X_tell_J31 at hd
    refine lv_aload_n (pc := 31) hx hb dX0_tell_31 rfl (lv_at hl 0 rfl) ?_
    refine lv_lload_n (pc := 32) hx hb dX0_tell_32 rfl (lv_at hl 1 rfl) ?_
    refine lv_lload (pc := 33) hx hb dX0_tell_33 (lv_at hl 3 rfl) ?_
    obtain ⟨z4, hd⟩ := bs_nzl_spec hd
    refine lv_ldiv (pc := 35) hx hb dX0_tell_35 z4 ?_
    obtain ⟨w5, ew5, hd⟩ := bs_let_spec hd
    refine lv_topEl (pc := 36) ew5 ?_
    obtain ⟨s6, es6, hd⟩ := bs_let_spec hd
    refine xp_upper (pc := 36) S hK hH dX0_tell_36 es6 (fun H locs hH => ?_)
    refine lv_aload_n (pc := 39) hx hb dX0_tell_39 rfl (lv_at hl 0 rfl) ?_
    refine lv_lload_n (pc := 40) hx hb dX0_tell_40 rfl (lv_at hl 2 rfl) ?_
    refine lv_lload (pc := 41) hx hb dX0_tell_41 (lv_at hl 3 rfl) ?_
    obtain ⟨z7, hd⟩ := bs_nzl_spec hd
    refine lv_ldiv (pc := 43) hx hb dX0_tell_43 z7 ?_
    obtain ⟨w8, ew8, hd⟩ := bs_let_spec hd
    refine lv_topEl (pc := 44) ew8 ?_
    obtain ⟨s9, es9, hd⟩ := bs_let_spec hd
    refine xp_lower (pc := 44) S hK hH dX0_tell_44 es9 (fun H locs hH => ?_)
    refine lv_iconst (v := (1 : Int32)) (pc := 47) hx hb dX0_tell_47 (by decide) ?_
    exact g_iret (WX ct a ρ) hd S hr hlk hH dX0_tell_48
  have h6 : ∀ (n6 : Nat) (st : XS) (x5 : Int64) (x7 : Int64) (H : Heap) (locs : List Loc) (ls : Array Slot), GH D (gA (xAs a) sz) (xAs a) U.heap (WX ct a ρ st) H locs → lv_has ls 11 [(0, .ref (ah a 0)), (1, .long a1), (3, .long a3), (5, .long x5), (7, .long x7)] → X_tell_L6 (X_tell_J31 a1 a3) a1 a3 n6 st x5 x7 = some z → W p l e rm_X_tell U m args below meth c H locs 0 0 (MQ below (GQi D (xAs a) (xAs a) (WX ct a ρ z.1) sz z.2) args U 0 0 (gA (xAs a) sz)) (F0 m 6 ls []) := by
    intro n6
    induction n6 with
    | zero =>
      intro st x5 x7 H locs ls hH hl hd
      rw [X_tell_L6] at hd
      cases hd
    | succ n6 ih6 =>
      intro st x5 x7 H locs ls hH hl hd
      rw [X_tell_L6] at hd
      refine lv_lload (pc := 6) hx hb dX0_tell_6 (lv_at hl 4 rfl) ?_
      refine lv_lconst (v := (0 : Int64)) (pc := 8) hx hb dX0_tell_8 (by decide) ?_
      refine W.lcmp (pc := 9) hx hb dX0_tell_9 ?_
      refine lv_if_eq (pc := 10) (tgt := 31) hx hb dX0_tell_10 (by decide) (fun c1 => ?_) (fun c1 => ?_)
      · have hd := if_t c1 hd
        exact h31 st x5 _ _ _ hH (lv_sub hl [0, 1, 2, 3] rfl) hd
      · have hd := if_n c1 hd
        refine lv_lload (pc := 13) hx hb dX0_tell_13 (lv_at hl 3 rfl) ?_
        refine lv_lload (pc := 15) hx hb dX0_tell_15 (lv_at hl 4 rfl) ?_
        obtain ⟨z2, hd⟩ := bs_nzl_spec hd
        refine lv_lrem (pc := 17) hx hb dX0_tell_17 z2 ?_
        obtain ⟨w3, ew3, hd⟩ := bs_let_spec hd
        refine lv_topEl (pc := 18) ew3 ?_
        refine lv_lstore (pc := 18) (lv' := [(9, .long w3), (0, .ref (ah a 0)), (1, .long a1), (3, .long a3), (5, .long x5), (7, .long x7)]) hx hb dX0_tell_18 hl (by decide) rfl (fun ls hl => ?_)
        refine lv_lload (pc := 20) hx hb dX0_tell_20 (lv_at hl 5 rfl) ?_
        refine lv_lstore (pc := 22) (lv' := [(5, .long x7), (9, .long w3), (0, .ref (ah a 0)), (1, .long a1), (3, .long a3), (7, .long x7)]) hx hb dX0_tell_22 hl (by decide) rfl (fun ls hl => ?_)
        refine lv_lload (pc := 24) hx hb dX0_tell_24 (lv_at hl 1 rfl) ?_
        refine lv_lstore (pc := 26) (lv' := [(7, .long w3), (5, .long x7), (9, .long w3), (0, .ref (ah a 0)), (1, .long a1), (3, .long a3)]) hx hb dX0_tell_26 hl (by decide) rfl (fun ls hl => ?_)
        refine lv_goto (pc := 28) (tgt := 6) hx hb dX0_tell_28 (by decide) ?_
        exact ih6 st x7 w3 _ _ _ hH (lv_sub hl [3, 4, 5, 1, 0] rfl) hd
  unfold X_tell at hd
  refine lv_lload_n (pc := 0) hx hb dX0_tell_0 rfl (lv_at hl 1 rfl) ?_
  refine lv_lstore (pc := 1) (lv' := [(5, .long a1), (0, .ref (ah a 0)), (1, .long a1), (3, .long a3)]) hx hb dX0_tell_1 hl (by decide) rfl (fun ls hl => ?_)
  refine lv_lload_n (pc := 3) hx hb dX0_tell_3 rfl (lv_at hl 3 rfl) ?_
  refine lv_lstore (pc := 4) (lv' := [(7, .long a3), (5, .long a1), (0, .ref (ah a 0)), (1, .long a1), (3, .long a3)]) hx hb dX0_tell_4 hl (by decide) rfl (fun ls hl => ?_)
  exact h6 bs_fu st a1 a3 _ _ _ hH (lv_sub hl [2, 3, 4, 1, 0] rfl) hd
section CR_X_tell
variable {p : Program} {l : Launch} {e : Env} {R : Room} {s : State} {m : MethodId} {args : Array Value} {below : List Frame} {meth : Method} {c : Code} {H : Heap} {locs : List Loc} {cells slots : Nat} {Q : State → Prop}
variable {cc : ByteArray} {pc nL idx : Nat} {ls : Array Slot} {rest : List Value} {lv : List (Nat × Value)} {A : Nat → Prop} {H0 : Heap} {own : String}
theorem call_X_tell {D : va_G} {ct : Nat → ClassId} {a : XA} {ρ : Option Nat} {st : XS} {a1 : Int64} {a3 : Int64} {z : (XS × Int32)} (S : CallFix p m c cc nL s args lw_all own) (hl : lv_has ls nL lv) (hE : gEX s) (hK : va_K D clA (tysG ct) s) (hH : GH D A (xAs a) H0 (WX ct a ρ st) H locs) (hlk : Cond.methodLink own idx yX0_tell ∈ lw_all) (hv : X_tell st a1 a3 = some z) (hR : 1 ≤ R.frames ∧ 30 ≤ R.locals) (hsum : (rest.map fun v => v.category).sum ≤ 8) (hdg : decode cc pc = .ok (.invokevirtual idx, 3)) (hf : cells ≤ R.cells ∧ slots ≤ R.slots)
    (k : ∀ (H1 : Heap) (locs1 : List Loc), GH D A (xAs a) H0 (WX ct a ρ z.1) H1 locs1 → W p l e R s m args below meth c H1 locs1 cells slots Q (F0 m (pc + 3) ls (.int z.2 :: rest))) : W p l e R s m args below meth c H locs cells slots Q (F0 m pc ls (.long a3 :: .long a1 :: .ref (ah a 0) :: rest)) :=
  g_calli (av := [.long a1, .long a3]) S hl gEX_ok hE hK hH (met_X_tell l D ct a ρ H.size st a1 a3 z hv) (lw_V hlk q815 qs30 q69 q816) rfl rfl ⟨rfl, by decide, by decide, by show (parseMethodDescriptor yX0_tell.desc).map (fun d => d.parameters.length) = some 2; decide +kernel⟩ hR (x_recv hK hH) (fun _ h => Or.inl h) rfl hsum hdg hf k
end CR_X_tell
/-! CapCouncil.sumsBy (II)I -/
def X_sumsBy_L14 (k53 : XS → Int32 → Int64 → Int64 → Int32 → Option (XS × Int32)) (a1 : Int32) (a2 : Int32) : Nat → XS → Int32 → Int64 → Int64 → Int32 → Option (XS × Int32)
  | 0, _, _, _, _, _ => none
  | n + 1, st, x3, x4, x6, x8 =>
    if (xi st 2) ≤ x8 then
      (k53 st x3 x4 x6 (0 : Int32))
    else
      ((X_has x3 x8).bind fun v3 =>
      if v3 = 0 then
        (bs_let (x6 * (1 : Int64)) fun w5 =>
        bs_let (x8 + (1 : Int32)) fun w6 =>
        X_sumsBy_L14 k53 a1 a2 n st x3 x4 w5 w6)
      else
        (bs_let (x6 * (12 : Int64)) fun w7 =>
        bs_let (x8 + (1 : Int32)) fun w8 =>
        X_sumsBy_L14 k53 a1 a2 n st x3 x4 w7 w8))
def X_sumsBy_L89 (k53 : XS → Int32 → Int64 → Int64 → Int32 → Option (XS × Int32)) (a1 : Int32) (a2 : Int32) : Nat → XS → Int32 → Int64 → Int64 → Int32 → Int64 → Int32 → Option (XS × Int32)
  | 0, _, _, _, _, _, _, _ => none
  | n + 1, st, x3, x4, x6, x8, x9, x11 =>
    if (xi st 2) ≤ x11 then
      (bs_let (x4 + x9) fun w19 =>
      bs_let (x8 + (1 : Int32)) fun w20 =>
      k53 st x3 w19 x6 w20)
    else
      ((X_has x3 x11).bind fun v21 =>
      if v21 = 0 then
        (bs_let (x9 * (1 : Int64)) fun w29 =>
        bs_let (x11 + (1 : Int32)) fun w30 =>
        X_sumsBy_L89 k53 a1 a2 n st x3 x4 x6 x8 w29 w30)
      else
        ((X_has x8 x11).bind fun v23 =>
        if v23 = 0 then
          (bs_let (x9 * (a2.toInt64)) fun w25 =>
          bs_let (x11 + (1 : Int32)) fun w26 =>
          X_sumsBy_L89 k53 a1 a2 n st x3 x4 x6 x8 w25 w26)
        else
          (bs_let (x9 * ((((12 : Int32) - a2)).toInt64)) fun w27 =>
          bs_let (x11 + (1 : Int32)) fun w28 =>
          X_sumsBy_L89 k53 a1 a2 n st x3 x4 x6 x8 w27 w28)))
def X_sumsBy_L53 (k155 : XS → Int32 → Int64 → Int64 → Option (XS × Int32)) (a1 : Int32) (a2 : Int32) : Nat → XS → Int32 → Int64 → Int64 → Int32 → Option (XS × Int32)
  | 0, _, _, _, _, _ => none
  | n + 1, st, x3, x4, x6, x8 =>
    if x3 < x8 then
      (k155 st x3 x4 x6)
    else
      (if (x8 &&& (x3 ^^^ (-1 : Int32))) = 0 then
        (bs_let (sxi st 8 x8) fun s12 =>
        (X_seated s12).bind fun v13 =>
        (J11_bitCount (v13 &&& a1)).bind fun v14 =>
        bs_let (v14.toInt64) fun w15 =>
        X_sumsBy_L89 (X_sumsBy_L53 k155 a1 a2 n) a1 a2 bs_fu s12 x3 x4 x6 x8 w15 (0 : Int32))
      else
        (bs_let (x8 + (1 : Int32)) fun w11 =>
        X_sumsBy_L53 k155 a1 a2 n st x3 x4 x6 w11))
def X_sumsBy_J155 (a1 : Int32) (a2 : Int32) (st : XS) (x3 : Int32) (x4 : Int64) (x6 : Int64) : Option (XS × Int32) :=
  bs_let (sxi st 8 x3) fun s16 =>
  (X_tell s16 x4 x6).bind fun q17 =>
  some (q17.1, q17.2)
def X_sumsBy (st : XS) (a1 : Int32) (a2 : Int32) : Option (XS × Int32) :=
  bs_let (xi st 8) fun w1 =>
  X_sumsBy_L14 (X_sumsBy_L53 (X_sumsBy_J155 a1 a2) a1 a2 bs_fu) a1 a2 bs_fu st w1 (0 : Int64) (1 : Int64) (0 : Int32)
def rm_X_sumsBy : Room := { frames := 7, cells := 0, slots := 0, locals := 188 }
set_option maxHeartbeats 4000000 in
set_option maxRecDepth 100000 in
theorem met_X_sumsBy (l : Launch) (D : va_G) (ct : Nat → ClassId) (a : XA) (ρ : Option Nat) (sz : Nat) (st : XS) (a1 : Int32) (a2 : Int32) (z : (XS × Int32)) (hd : X_sumsBy st a1 a2 = some z) : Met l yX0_sumsBy (ws_ yX0_sumsBy cX0_sumsBy 12 (some .int)) rm_X_sumsBy (GPre gEX D ct (xAs a) (WX ct a ρ st) sz [.ref (ah a 0), .int a1, .int a2]) (GQi D (xAs a) (xAs a) (WX ct a ρ z.1) sz z.2) 0 0 (gA (xAs a) sz) := by
  refine g_met (cc := cX0_sumsBy) (maxL := 12) (ret := (some .int)) (by decide) (Nat.le_of_ble_eq_true rfl) ?_
  intro p e U m args below meth c ls S hr hlk hK hH hE hsz hl
  have S : CallFix p m c cX0_sumsBy 12 U args lw_all RX0 := S
  have hx := S.1
  have hb := S.2.1
  have hl : lv_has ls 12 [(0, .ref (ah a 0)), (1, .int a1), (2, .int a2)] := hl
  have h155 : ∀ (st : XS) (x3 : Int32) (x4 : Int64) (x6 : Int64) (H : Heap) (locs : List Loc) (ls : Array Slot), GH D (gA (xAs a) sz) (xAs a) U.heap (WX ct a ρ st) H locs → lv_has ls 12 [(0, .ref (ah a 0)), (1, .int a1), (2, .int a2), (3, .int x3), (4, .long x4), (6, .long x6)] → X_sumsBy_J155 a1 a2 st x3 x4 x6 = some z → W p l e rm_X_sumsBy U m args below meth c H locs 0 0 (MQ below (GQi D (xAs a) (xAs a) (WX ct a ρ z.1) sz z.2) args U 0 0 (gA (xAs a) sz)) (F0 m 155 ls []) := by
    intro st x3 x4 x6 H locs ls hH hl hd
    unfold X_sumsBy_J155 at hd
    refine lv_aload_n (pc := 155) hx hb dX0_sumsBy_155 rfl (lv_at hl 0 rfl) ?_
    refine lv_iload_n (pc := 156) hx hb dX0_sumsBy_156 rfl (lv_at hl 3 rfl) ?_
    obtain ⟨s16, es16, hd⟩ := bs_let_spec hd
    refine xp_up (pc := 157) S hK hH dX0_sumsBy_157 es16 (fun H locs hH => ?_)
    refine lv_aload_n (pc := 160) hx hb dX0_sumsBy_160 rfl (lv_at hl 0 rfl) ?_
    refine lv_lload (pc := 161) hx hb dX0_sumsBy_161 (lv_at hl 4 rfl) ?_
    refine lv_lload (pc := 163) hx hb dX0_sumsBy_163 (lv_at hl 5 rfl) ?_
    obtain ⟨q17, hq17, hd⟩ := bs_bd hd
    refine call_X_tell (pc := 165) S hl hE hK hH q813 hq17 ⟨Nat.le_of_ble_eq_true rfl, Nat.le_of_ble_eq_true rfl⟩ (Nat.le_of_ble_eq_true rfl) dX0_sumsBy_165 ⟨Nat.zero_le _, Nat.zero_le _⟩ (fun H locs hH => ?_)
    exact g_iret (WX ct a ρ) hd S hr hlk hH dX0_sumsBy_168
  have h53 : ∀ (n53 : Nat) (st : XS) (x3 : Int32) (x4 : Int64) (x6 : Int64) (x8 : Int32) (H : Heap) (locs : List Loc) (ls : Array Slot), GH D (gA (xAs a) sz) (xAs a) U.heap (WX ct a ρ st) H locs → lv_has ls 12 [(0, .ref (ah a 0)), (1, .int a1), (2, .int a2), (3, .int x3), (4, .long x4), (6, .long x6), (8, .int x8)] → X_sumsBy_L53 (X_sumsBy_J155 a1 a2) a1 a2 n53 st x3 x4 x6 x8 = some z → W p l e rm_X_sumsBy U m args below meth c H locs 0 0 (MQ below (GQi D (xAs a) (xAs a) (WX ct a ρ z.1) sz z.2) args U 0 0 (gA (xAs a) sz)) (F0 m 53 ls []) := by
    intro n53
    induction n53 with
    | zero =>
      intro st x3 x4 x6 x8 H locs ls hH hl hd
      rw [X_sumsBy_L53] at hd
      cases hd
    | succ n53 ih53 =>
      have h89 : ∀ (n89 : Nat) (st : XS) (x3 : Int32) (x4 : Int64) (x6 : Int64) (x8 : Int32) (x9 : Int64) (x11 : Int32) (H : Heap) (locs : List Loc) (ls : Array Slot), GH D (gA (xAs a) sz) (xAs a) U.heap (WX ct a ρ st) H locs → lv_has ls 12 [(0, .ref (ah a 0)), (1, .int a1), (2, .int a2), (3, .int x3), (4, .long x4), (6, .long x6), (8, .int x8), (9, .long x9), (11, .int x11)] → X_sumsBy_L89 (X_sumsBy_L53 (X_sumsBy_J155 a1 a2) a1 a2 n53) a1 a2 n89 st x3 x4 x6 x8 x9 x11 = some z → W p l e rm_X_sumsBy U m args below meth c H locs 0 0 (MQ below (GQi D (xAs a) (xAs a) (WX ct a ρ z.1) sz z.2) args U 0 0 (gA (xAs a) sz)) (F0 m 89 ls []) := by
        intro n89
        induction n89 with
        | zero =>
          intro st x3 x4 x6 x8 x9 x11 H locs ls hH hl hd
          rw [X_sumsBy_L89] at hd
          cases hd
        | succ n89 ih89 =>
          intro st x3 x4 x6 x8 x9 x11 H locs ls hH hl hd
          rw [X_sumsBy_L89] at hd
          refine lv_iload (pc := 89) hx hb dX0_sumsBy_89 (lv_at hl 8 rfl) ?_
          refine lv_aload_n (pc := 91) hx hb dX0_sumsBy_91 rfl (lv_at hl 0 rfl) ?_
          refine xg_ringMany (pc := 92) S hK hH dX0_sumsBy_92 ?_
          refine lv_icmp_ge (pc := 95) (tgt := 142) hx hb dX0_sumsBy_95 (by decide) (fun c18 => ?_) (fun c18 => ?_)
          · have hd := if_t c18 hd
            refine lv_lload (pc := 142) hx hb dX0_sumsBy_142 (lv_at hl 4 rfl) ?_
            refine lv_lload (pc := 144) hx hb dX0_sumsBy_144 (lv_at hl 7 rfl) ?_
            refine lv_ladd (pc := 146) hx hb dX0_sumsBy_146 ?_
            obtain ⟨w19, ew19, hd⟩ := bs_let_spec hd
            refine lv_topEl (pc := 147) ew19 ?_
            refine lv_lstore (pc := 147) (lv' := [(4, .long w19), (0, .ref (ah a 0)), (1, .int a1), (2, .int a2), (3, .int x3), (6, .long x6), (8, .int x8), (9, .long x9), (11, .int x11)]) hx hb dX0_sumsBy_147 hl (by decide) rfl (fun ls hl => ?_)
            obtain ⟨w20, ew20, hd⟩ := bs_let_spec hd
            refine lv_iinc (pc := 149) (v := w20) (lv' := [(8, .int w20), (4, .long w19), (0, .ref (ah a 0)), (1, .int a1), (2, .int a2), (3, .int x3), (6, .long x6), (9, .long x9), (11, .int x11)]) hx hb dX0_sumsBy_149 hl (k := 6) rfl (by rw [ew20]; rfl) (by decide) rfl (fun ls hl => ?_)
            refine lv_goto (pc := 152) (tgt := 53) hx hb dX0_sumsBy_152 (by decide) ?_
            exact ih53 st x3 w19 x6 w20 _ _ _ hH (lv_sub hl [2, 3, 4, 5, 1, 6, 0] rfl) hd
          · have hd := if_n c18 hd
            refine lv_lload (pc := 98) hx hb dX0_sumsBy_98 (lv_at hl 7 rfl) ?_
            refine lv_iload_n (pc := 100) hx hb dX0_sumsBy_100 rfl (lv_at hl 3 rfl) ?_
            refine lv_iload (pc := 101) hx hb dX0_sumsBy_101 (lv_at hl 8 rfl) ?_
            obtain ⟨v21, hv21, hd⟩ := bs_bd hd
            refine call_X_has (pc := 103) S hl q520 hv21 ⟨Nat.le_of_ble_eq_true rfl, Nat.le_of_ble_eq_true rfl⟩ (Nat.le_of_ble_eq_true rfl) dX0_sumsBy_103 ⟨Nat.zero_le _, Nat.zero_le _⟩ ?_
            refine lv_if_ne (pc := 106) (tgt := 113) hx hb dX0_sumsBy_106 (by decide) (fun c22 => ?_) (fun c22 => ?_)
            · have hd := if_n c22 hd
              refine lv_iload (pc := 113) hx hb dX0_sumsBy_113 (lv_at hl 6 rfl) ?_
              refine lv_iload (pc := 115) hx hb dX0_sumsBy_115 (lv_at hl 8 rfl) ?_
              obtain ⟨v23, hv23, hd⟩ := bs_bd hd
              refine call_X_has (pc := 117) S hl q520 hv23 ⟨Nat.le_of_ble_eq_true rfl, Nat.le_of_ble_eq_true rfl⟩ (Nat.le_of_ble_eq_true rfl) dX0_sumsBy_117 ⟨Nat.zero_le _, Nat.zero_le _⟩ ?_
              refine lv_if_eq (pc := 120) (tgt := 131) hx hb dX0_sumsBy_120 (by decide) (fun c24 => ?_) (fun c24 => ?_)
              · have hd := if_t c24 hd
                refine lv_iload_n (pc := 131) hx hb dX0_sumsBy_131 rfl (lv_at hl 2 rfl) ?_
                refine lv_i2l (pc := 132) hx hb dX0_sumsBy_132 rfl ?_
                refine lv_lmul (pc := 133) hx hb dX0_sumsBy_133 ?_
                obtain ⟨w25, ew25, hd⟩ := bs_let_spec hd
                refine lv_topEl (pc := 134) ew25 ?_
                refine lv_lstore (pc := 134) (lv' := [(9, .long w25), (0, .ref (ah a 0)), (1, .int a1), (2, .int a2), (3, .int x3), (4, .long x4), (6, .long x6), (8, .int x8), (11, .int x11)]) hx hb dX0_sumsBy_134 hl (by decide) rfl (fun ls hl => ?_)
                obtain ⟨w26, ew26, hd⟩ := bs_let_spec hd
                refine lv_iinc (pc := 136) (v := w26) (lv' := [(11, .int w26), (9, .long w25), (0, .ref (ah a 0)), (1, .int a1), (2, .int a2), (3, .int x3), (4, .long x4), (6, .long x6), (8, .int x8)]) hx hb dX0_sumsBy_136 hl (k := 8) rfl (by rw [ew26]; rfl) (by decide) rfl (fun ls hl => ?_)
                refine lv_goto (pc := 139) (tgt := 89) hx hb dX0_sumsBy_139 (by decide) ?_
                exact ih89 st x3 x4 x6 x8 w25 w26 _ _ _ hH (lv_sub hl [2, 3, 4, 5, 6, 7, 8, 1, 0] rfl) hd
              · have hd := if_n c24 hd
                refine lv_bipush (v := (12 : Int32)) (pc := 123) hx hb dX0_sumsBy_123 (by decide) ?_
                refine lv_iload_n (pc := 125) hx hb dX0_sumsBy_125 rfl (lv_at hl 2 rfl) ?_
                refine lv_isub (pc := 126) hx hb dX0_sumsBy_126 ?_
                refine lv_i2l (pc := 127) hx hb dX0_sumsBy_127 rfl ?_
                refine lv_goto (pc := 128) (tgt := 133) hx hb dX0_sumsBy_128 (by decide) ?_
                refine lv_lmul (pc := 133) hx hb dX0_sumsBy_133 ?_
                obtain ⟨w27, ew27, hd⟩ := bs_let_spec hd
                refine lv_topEl (pc := 134) ew27 ?_
                refine lv_lstore (pc := 134) (lv' := [(9, .long w27), (0, .ref (ah a 0)), (1, .int a1), (2, .int a2), (3, .int x3), (4, .long x4), (6, .long x6), (8, .int x8), (11, .int x11)]) hx hb dX0_sumsBy_134 hl (by decide) rfl (fun ls hl => ?_)
                obtain ⟨w28, ew28, hd⟩ := bs_let_spec hd
                refine lv_iinc (pc := 136) (v := w28) (lv' := [(11, .int w28), (9, .long w27), (0, .ref (ah a 0)), (1, .int a1), (2, .int a2), (3, .int x3), (4, .long x4), (6, .long x6), (8, .int x8)]) hx hb dX0_sumsBy_136 hl (k := 8) rfl (by rw [ew28]; rfl) (by decide) rfl (fun ls hl => ?_)
                refine lv_goto (pc := 139) (tgt := 89) hx hb dX0_sumsBy_139 (by decide) ?_
                exact ih89 st x3 x4 x6 x8 w27 w28 _ _ _ hH (lv_sub hl [2, 3, 4, 5, 6, 7, 8, 1, 0] rfl) hd
            · have hd := if_t c22 hd
              refine lv_lconst (v := (1 : Int64)) (pc := 109) hx hb dX0_sumsBy_109 (by decide) ?_
              refine lv_goto (pc := 110) (tgt := 133) hx hb dX0_sumsBy_110 (by decide) ?_
              refine lv_lmul (pc := 133) hx hb dX0_sumsBy_133 ?_
              obtain ⟨w29, ew29, hd⟩ := bs_let_spec hd
              refine lv_topEl (pc := 134) ew29 ?_
              refine lv_lstore (pc := 134) (lv' := [(9, .long w29), (0, .ref (ah a 0)), (1, .int a1), (2, .int a2), (3, .int x3), (4, .long x4), (6, .long x6), (8, .int x8), (11, .int x11)]) hx hb dX0_sumsBy_134 hl (by decide) rfl (fun ls hl => ?_)
              obtain ⟨w30, ew30, hd⟩ := bs_let_spec hd
              refine lv_iinc (pc := 136) (v := w30) (lv' := [(11, .int w30), (9, .long w29), (0, .ref (ah a 0)), (1, .int a1), (2, .int a2), (3, .int x3), (4, .long x4), (6, .long x6), (8, .int x8)]) hx hb dX0_sumsBy_136 hl (k := 8) rfl (by rw [ew30]; rfl) (by decide) rfl (fun ls hl => ?_)
              refine lv_goto (pc := 139) (tgt := 89) hx hb dX0_sumsBy_139 (by decide) ?_
              exact ih89 st x3 x4 x6 x8 w29 w30 _ _ _ hH (lv_sub hl [2, 3, 4, 5, 6, 7, 8, 1, 0] rfl) hd
      intro st x3 x4 x6 x8 H locs ls hH hl hd
      rw [X_sumsBy_L53] at hd
      refine lv_iload (pc := 53) hx hb dX0_sumsBy_53 (lv_at hl 6 rfl) ?_
      refine lv_iload_n (pc := 55) hx hb dX0_sumsBy_55 rfl (lv_at hl 3 rfl) ?_
      refine lv_icmp_gt (pc := 56) (tgt := 155) hx hb dX0_sumsBy_56 (by decide) (fun c9 => ?_) (fun c9 => ?_)
      · have hd := if_t c9 hd
        exact h155 st x3 x4 x6 _ _ _ hH (lv_sub hl [0, 1, 2, 3, 4, 5] rfl) hd
      · have hd := if_n c9 hd
        refine lv_iload (pc := 59) hx hb dX0_sumsBy_59 (lv_at hl 6 rfl) ?_
        refine lv_iload_n (pc := 61) hx hb dX0_sumsBy_61 rfl (lv_at hl 3 rfl) ?_
        refine lv_iconst (v := (-1 : Int32)) (pc := 62) hx hb dX0_sumsBy_62 (by decide) ?_
        refine lv_ixor (pc := 63) hx hb dX0_sumsBy_63 ?_
        refine lv_iand (pc := 64) hx hb dX0_sumsBy_64 ?_
        refine lv_if_ne (pc := 65) (tgt := 149) hx hb dX0_sumsBy_65 (by decide) (fun c10 => ?_) (fun c10 => ?_)
        · have hd := if_n c10 hd
          obtain ⟨w11, ew11, hd⟩ := bs_let_spec hd
          refine lv_iinc (pc := 149) (v := w11) (lv' := [(8, .int w11), (0, .ref (ah a 0)), (1, .int a1), (2, .int a2), (3, .int x3), (4, .long x4), (6, .long x6)]) hx hb dX0_sumsBy_149 hl (k := 6) rfl (by rw [ew11]; rfl) (by decide) rfl (fun ls hl => ?_)
          refine lv_goto (pc := 152) (tgt := 53) hx hb dX0_sumsBy_152 (by decide) ?_
          exact ih53 st x3 x4 x6 w11 _ _ _ hH (lv_sub hl [1, 2, 3, 4, 5, 6, 0] rfl) hd
        · have hd := if_t c10 hd
          refine lv_aload_n (pc := 68) hx hb dX0_sumsBy_68 rfl (lv_at hl 0 rfl) ?_
          refine lv_iload (pc := 69) hx hb dX0_sumsBy_69 (lv_at hl 6 rfl) ?_
          obtain ⟨s12, es12, hd⟩ := bs_let_spec hd
          refine xp_up (pc := 71) S hK hH dX0_sumsBy_71 es12 (fun H locs hH => ?_)
          refine lv_aload_n (pc := 74) hx hb dX0_sumsBy_74 rfl (lv_at hl 0 rfl) ?_
          obtain ⟨v13, hv13, hd⟩ := bs_bd hd
          refine call_X_seated (pc := 75) S hl hE hK hH q665 hv13 ⟨Nat.le_of_ble_eq_true rfl, Nat.le_of_ble_eq_true rfl⟩ (Nat.le_of_ble_eq_true rfl) dX0_sumsBy_75 ⟨Nat.zero_le _, Nat.zero_le _⟩ ?_
          refine lv_iload_n (pc := 78) hx hb dX0_sumsBy_78 rfl (lv_at hl 1 rfl) ?_
          refine lv_iand (pc := 79) hx hb dX0_sumsBy_79 ?_
          obtain ⟨v14, hv14, hd⟩ := bs_bd hd
          refine call_J11_bitCount (pc := 80) S hl q669 hv14 ⟨Nat.le_of_ble_eq_true rfl, Nat.le_of_ble_eq_true rfl⟩ (Nat.le_of_ble_eq_true rfl) dX0_sumsBy_80 ⟨Nat.zero_le _, Nat.zero_le _⟩ ?_
          refine lv_i2l (pc := 83) hx hb dX0_sumsBy_83 rfl ?_
          obtain ⟨w15, ew15, hd⟩ := bs_let_spec hd
          refine lv_topEl (pc := 84) ew15 ?_
          refine lv_lstore (pc := 84) (lv' := [(9, .long w15), (0, .ref (ah a 0)), (1, .int a1), (2, .int a2), (3, .int x3), (4, .long x4), (6, .long x6), (8, .int x8)]) hx hb dX0_sumsBy_84 hl (by decide) rfl (fun ls hl => ?_)
          refine lv_iconst (v := (0 : Int32)) (pc := 86) hx hb dX0_sumsBy_86 (by decide) ?_
          refine lv_istore (pc := 87) (lv' := [(11, .int (0 : Int32)), (9, .long w15), (0, .ref (ah a 0)), (1, .int a1), (2, .int a2), (3, .int x3), (4, .long x4), (6, .long x6), (8, .int x8)]) hx hb dX0_sumsBy_87 hl (by decide) rfl (fun ls hl => ?_)
          exact h89 bs_fu s12 x3 x4 x6 x8 w15 (0 : Int32) _ _ _ hH (lv_sub hl [2, 3, 4, 5, 6, 7, 8, 1, 0] rfl) hd
  have h14 : ∀ (n14 : Nat) (st : XS) (x3 : Int32) (x4 : Int64) (x6 : Int64) (x8 : Int32) (H : Heap) (locs : List Loc) (ls : Array Slot), GH D (gA (xAs a) sz) (xAs a) U.heap (WX ct a ρ st) H locs → lv_has ls 12 [(0, .ref (ah a 0)), (1, .int a1), (2, .int a2), (3, .int x3), (4, .long x4), (6, .long x6), (8, .int x8)] → X_sumsBy_L14 (X_sumsBy_L53 (X_sumsBy_J155 a1 a2) a1 a2 bs_fu) a1 a2 n14 st x3 x4 x6 x8 = some z → W p l e rm_X_sumsBy U m args below meth c H locs 0 0 (MQ below (GQi D (xAs a) (xAs a) (WX ct a ρ z.1) sz z.2) args U 0 0 (gA (xAs a) sz)) (F0 m 14 ls []) := by
    intro n14
    induction n14 with
    | zero =>
      intro st x3 x4 x6 x8 H locs ls hH hl hd
      rw [X_sumsBy_L14] at hd
      cases hd
    | succ n14 ih14 =>
      intro st x3 x4 x6 x8 H locs ls hH hl hd
      rw [X_sumsBy_L14] at hd
      refine lv_iload (pc := 14) hx hb dX0_sumsBy_14 (lv_at hl 6 rfl) ?_
      refine lv_aload_n (pc := 16) hx hb dX0_sumsBy_16 rfl (lv_at hl 0 rfl) ?_
      refine xg_ringMany (pc := 17) S hK hH dX0_sumsBy_17 ?_
      refine lv_icmp_ge (pc := 20) (tgt := 50) hx hb dX0_sumsBy_20 (by decide) (fun c2 => ?_) (fun c2 => ?_)
      · have hd := if_t c2 hd
        refine lv_iconst (v := (0 : Int32)) (pc := 50) hx hb dX0_sumsBy_50 (by decide) ?_
        refine lv_istore (pc := 51) (lv' := [(8, .int (0 : Int32)), (0, .ref (ah a 0)), (1, .int a1), (2, .int a2), (3, .int x3), (4, .long x4), (6, .long x6)]) hx hb dX0_sumsBy_51 hl (by decide) rfl (fun ls hl => ?_)
        exact h53 bs_fu st x3 x4 x6 (0 : Int32) _ _ _ hH (lv_sub hl [1, 2, 3, 4, 5, 6, 0] rfl) hd
      · have hd := if_n c2 hd
        refine lv_lload (pc := 23) hx hb dX0_sumsBy_23 (lv_at hl 5 rfl) ?_
        refine lv_iload_n (pc := 25) hx hb dX0_sumsBy_25 rfl (lv_at hl 3 rfl) ?_
        refine lv_iload (pc := 26) hx hb dX0_sumsBy_26 (lv_at hl 6 rfl) ?_
        obtain ⟨v3, hv3, hd⟩ := bs_bd hd
        refine call_X_has (pc := 28) S hl q520 hv3 ⟨Nat.le_of_ble_eq_true rfl, Nat.le_of_ble_eq_true rfl⟩ (Nat.le_of_ble_eq_true rfl) dX0_sumsBy_28 ⟨Nat.zero_le _, Nat.zero_le _⟩ ?_
        refine lv_if_eq (pc := 31) (tgt := 40) hx hb dX0_sumsBy_31 (by decide) (fun c4 => ?_) (fun c4 => ?_)
        · have hd := if_t c4 hd
          refine lv_lconst (v := (1 : Int64)) (pc := 40) hx hb dX0_sumsBy_40 (by decide) ?_
          refine lv_lmul (pc := 41) hx hb dX0_sumsBy_41 ?_
          obtain ⟨w5, ew5, hd⟩ := bs_let_spec hd
          refine lv_topEl (pc := 42) ew5 ?_
          refine lv_lstore (pc := 42) (lv' := [(6, .long w5), (0, .ref (ah a 0)), (1, .int a1), (2, .int a2), (3, .int x3), (4, .long x4), (8, .int x8)]) hx hb dX0_sumsBy_42 hl (by decide) rfl (fun ls hl => ?_)
          obtain ⟨w6, ew6, hd⟩ := bs_let_spec hd
          refine lv_iinc (pc := 44) (v := w6) (lv' := [(8, .int w6), (6, .long w5), (0, .ref (ah a 0)), (1, .int a1), (2, .int a2), (3, .int x3), (4, .long x4)]) hx hb dX0_sumsBy_44 hl (k := 6) rfl (by rw [ew6]; rfl) (by decide) rfl (fun ls hl => ?_)
          refine lv_goto (pc := 47) (tgt := 14) hx hb dX0_sumsBy_47 (by decide) ?_
          exact ih14 st x3 x4 w5 w6 _ _ _ hH (lv_sub hl [2, 3, 4, 5, 6, 1, 0] rfl) hd
        · have hd := if_n c4 hd
          refine lv_ldc2 (pc := 34) (own := RX0) (v := (12 : Int64)) hx hb S.2.2.2.1 (S.2.2.2.2 _ q812) dX0_sumsBy_34 ?_
          refine lv_goto (pc := 37) (tgt := 41) hx hb dX0_sumsBy_37 (by decide) ?_
          refine lv_lmul (pc := 41) hx hb dX0_sumsBy_41 ?_
          obtain ⟨w7, ew7, hd⟩ := bs_let_spec hd
          refine lv_topEl (pc := 42) ew7 ?_
          refine lv_lstore (pc := 42) (lv' := [(6, .long w7), (0, .ref (ah a 0)), (1, .int a1), (2, .int a2), (3, .int x3), (4, .long x4), (8, .int x8)]) hx hb dX0_sumsBy_42 hl (by decide) rfl (fun ls hl => ?_)
          obtain ⟨w8, ew8, hd⟩ := bs_let_spec hd
          refine lv_iinc (pc := 44) (v := w8) (lv' := [(8, .int w8), (6, .long w7), (0, .ref (ah a 0)), (1, .int a1), (2, .int a2), (3, .int x3), (4, .long x4)]) hx hb dX0_sumsBy_44 hl (k := 6) rfl (by rw [ew8]; rfl) (by decide) rfl (fun ls hl => ?_)
          refine lv_goto (pc := 47) (tgt := 14) hx hb dX0_sumsBy_47 (by decide) ?_
          exact ih14 st x3 x4 w7 w8 _ _ _ hH (lv_sub hl [2, 3, 4, 5, 6, 1, 0] rfl) hd
  unfold X_sumsBy at hd
  refine lv_aload_n (pc := 0) hx hb dX0_sumsBy_0 rfl (lv_at hl 0 rfl) ?_
  refine xg_up (pc := 1) S hK hH dX0_sumsBy_1 ?_
  obtain ⟨w1, ew1, hd⟩ := bs_let_spec hd
  refine lv_topE (pc := 4) ew1 ?_
  refine lv_istore_n (pc := 4) (lv' := [(3, .int w1), (0, .ref (ah a 0)), (1, .int a1), (2, .int a2)]) hx hb dX0_sumsBy_4 rfl hl (by decide) rfl (fun ls hl => ?_)
  refine lv_lconst (v := (0 : Int64)) (pc := 5) hx hb dX0_sumsBy_5 (by decide) ?_
  refine lv_lstore (pc := 6) (lv' := [(4, .long (0 : Int64)), (3, .int w1), (0, .ref (ah a 0)), (1, .int a1), (2, .int a2)]) hx hb dX0_sumsBy_6 hl (by decide) rfl (fun ls hl => ?_)
  refine lv_lconst (v := (1 : Int64)) (pc := 8) hx hb dX0_sumsBy_8 (by decide) ?_
  refine lv_lstore (pc := 9) (lv' := [(6, .long (1 : Int64)), (4, .long (0 : Int64)), (3, .int w1), (0, .ref (ah a 0)), (1, .int a1), (2, .int a2)]) hx hb dX0_sumsBy_9 hl (by decide) rfl (fun ls hl => ?_)
  refine lv_iconst (v := (0 : Int32)) (pc := 11) hx hb dX0_sumsBy_11 (by decide) ?_
  refine lv_istore (pc := 12) (lv' := [(8, .int (0 : Int32)), (6, .long (1 : Int64)), (4, .long (0 : Int64)), (3, .int w1), (0, .ref (ah a 0)), (1, .int a1), (2, .int a2)]) hx hb dX0_sumsBy_12 hl (by decide) rfl (fun ls hl => ?_)
  exact h14 bs_fu st w1 (0 : Int64) (1 : Int64) (0 : Int32) _ _ _ hH (lv_sub hl [4, 5, 6, 3, 2, 1, 0] rfl) hd
section CR_X_sumsBy
variable {p : Program} {l : Launch} {e : Env} {R : Room} {s : State} {m : MethodId} {args : Array Value} {below : List Frame} {meth : Method} {c : Code} {H : Heap} {locs : List Loc} {cells slots : Nat} {Q : State → Prop}
variable {cc : ByteArray} {pc nL idx : Nat} {ls : Array Slot} {rest : List Value} {lv : List (Nat × Value)} {A : Nat → Prop} {H0 : Heap} {own : String}
theorem call_X_sumsBy {D : va_G} {ct : Nat → ClassId} {a : XA} {ρ : Option Nat} {st : XS} {a1 : Int32} {a2 : Int32} {z : (XS × Int32)} (S : CallFix p m c cc nL s args lw_all own) (hl : lv_has ls nL lv) (hE : gEX s) (hK : va_K D clA (tysG ct) s) (hH : GH D A (xAs a) H0 (WX ct a ρ st) H locs) (hlk : Cond.methodLink own idx yX0_sumsBy ∈ lw_all) (hv : X_sumsBy st a1 a2 = some z) (hR : 8 ≤ R.frames ∧ 219 ≤ R.locals) (hsum : (rest.map fun v => v.category).sum ≤ 8) (hdg : decode cc pc = .ok (.invokevirtual idx, 3)) (hf : cells ≤ R.cells ∧ slots ≤ R.slots)
    (k : ∀ (H1 : Heap) (locs1 : List Loc), GH D A (xAs a) H0 (WX ct a ρ z.1) H1 locs1 → W p l e R s m args below meth c H1 locs1 cells slots Q (F0 m (pc + 3) ls (.int z.2 :: rest))) : W p l e R s m args below meth c H locs cells slots Q (F0 m pc ls (.int a2 :: .int a1 :: .ref (ah a 0) :: rest)) :=
  g_calli (av := [.int a1, .int a2]) S hl gEX_ok hE hK hH (met_X_sumsBy l D ct a ρ H.size st a1 a2 z hv) (lw_V hlk q810 qs29 q69 q811) rfl rfl ⟨rfl, by decide, by decide, by show (parseMethodDescriptor yX0_sumsBy.desc).map (fun d => d.parameters.length) = some 2; decide +kernel⟩ hR (x_recv hK hH) (fun _ h => Or.inl h) rfl hsum hdg hf k
end CR_X_sumsBy
/-! CapCouncil.odds (II)I -/
def X_odds (st : XS) (a1 : Int32) (a2 : Int32) : Option (XS × Int32) :=
  (X_isBed st a1).bind fun v1 =>
  if v1 = 0 then
    (some (st, (-1 : Int32)))
  else
    ((X_isIn a2 (0 : Int32) (12 : Int32)).bind fun v3 =>
    if v3 = 0 then
      (some (st, (-1 : Int32)))
    else
      ((X_sumsBy st ((1 : Int32) <<< (a1 &&& 31)) a2).bind fun q5 =>
      some (q5.1, q5.2)))
def rm_X_odds : Room := { frames := 8, cells := 0, slots := 0, locals := 219 }
set_option maxHeartbeats 4000000 in
set_option maxRecDepth 100000 in
theorem met_X_odds (l : Launch) (D : va_G) (ct : Nat → ClassId) (a : XA) (ρ : Option Nat) (sz : Nat) (st : XS) (a1 : Int32) (a2 : Int32) (z : (XS × Int32)) (hd : X_odds st a1 a2 = some z) : Met l yX0_odds (ws_ yX0_odds cX0_odds 3 (some .int)) rm_X_odds (GPre gEX D ct (xAs a) (WX ct a ρ st) sz [.ref (ah a 0), .int a1, .int a2]) (GQi D (xAs a) (xAs a) (WX ct a ρ z.1) sz z.2) 0 0 (gA (xAs a) sz) := by
  refine g_met (cc := cX0_odds) (maxL := 3) (ret := (some .int)) (by decide) (Nat.le_of_ble_eq_true rfl) ?_
  intro p e U m args below meth c ls S hr hlk hK hH hE hsz hl
  have S : CallFix p m c cX0_odds 3 U args lw_all RX0 := S
  have hx := S.1
  have hb := S.2.1
  have hl : lv_has ls 3 [(0, .ref (ah a 0)), (1, .int a1), (2, .int a2)] := hl
  unfold X_odds at hd
  refine lv_aload_n (pc := 0) hx hb dX0_odds_0 rfl (lv_at hl 0 rfl) ?_
  refine lv_iload_n (pc := 1) hx hb dX0_odds_1 rfl (lv_at hl 1 rfl) ?_
  obtain ⟨v1, hv1, hd⟩ := bs_bd hd
  refine call_X_isBed (pc := 2) S hl hE hK hH q569 hv1 ⟨Nat.le_of_ble_eq_true rfl, Nat.le_of_ble_eq_true rfl⟩ (Nat.le_of_ble_eq_true rfl) dX0_odds_2 ⟨Nat.zero_le _, Nat.zero_le _⟩ ?_
  refine lv_if_eq (pc := 5) (tgt := 29) hx hb dX0_odds_5 (by decide) (fun c2 => ?_) (fun c2 => ?_)
  · have hd := if_t c2 hd
    refine lv_iconst (v := (-1 : Int32)) (pc := 29) hx hb dX0_odds_29 (by decide) ?_
    exact g_iret (WX ct a ρ) hd S hr hlk hH dX0_odds_30
  · have hd := if_n c2 hd
    refine lv_iload_n (pc := 8) hx hb dX0_odds_8 rfl (lv_at hl 2 rfl) ?_
    refine lv_iconst (v := (0 : Int32)) (pc := 9) hx hb dX0_odds_9 (by decide) ?_
    refine lv_bipush (v := (12 : Int32)) (pc := 10) hx hb dX0_odds_10 (by decide) ?_
    obtain ⟨v3, hv3, hd⟩ := bs_bd hd
    refine call_X_isIn (pc := 12) S hl q285 hv3 ⟨Nat.le_of_ble_eq_true rfl, Nat.le_of_ble_eq_true rfl⟩ (Nat.le_of_ble_eq_true rfl) dX0_odds_12 ⟨Nat.zero_le _, Nat.zero_le _⟩ ?_
    refine lv_if_eq (pc := 15) (tgt := 29) hx hb dX0_odds_15 (by decide) (fun c4 => ?_) (fun c4 => ?_)
    · have hd := if_t c4 hd
      refine lv_iconst (v := (-1 : Int32)) (pc := 29) hx hb dX0_odds_29 (by decide) ?_
      exact g_iret (WX ct a ρ) hd S hr hlk hH dX0_odds_30
    · have hd := if_n c4 hd
      refine lv_aload_n (pc := 18) hx hb dX0_odds_18 rfl (lv_at hl 0 rfl) ?_
      refine lv_iconst (v := (1 : Int32)) (pc := 19) hx hb dX0_odds_19 (by decide) ?_
      refine lv_iload_n (pc := 20) hx hb dX0_odds_20 rfl (lv_at hl 1 rfl) ?_
      refine lv_ishl (pc := 21) hx hb dX0_odds_21 ?_
      refine lv_iload_n (pc := 22) hx hb dX0_odds_22 rfl (lv_at hl 2 rfl) ?_
      obtain ⟨q5, hq5, hd⟩ := bs_bd hd
      refine call_X_sumsBy (pc := 23) S hl hE hK hH q808 hq5 ⟨Nat.le_of_ble_eq_true rfl, Nat.le_of_ble_eq_true rfl⟩ (Nat.le_of_ble_eq_true rfl) dX0_odds_23 ⟨Nat.zero_le _, Nat.zero_le _⟩ (fun H locs hH => ?_)
      refine lv_goto (pc := 26) (tgt := 30) hx hb dX0_odds_26 (by decide) ?_
      exact g_iret (WX ct a ρ) hd S hr hlk hH dX0_odds_30
section CR_X_odds
variable {p : Program} {l : Launch} {e : Env} {R : Room} {s : State} {m : MethodId} {args : Array Value} {below : List Frame} {meth : Method} {c : Code} {H : Heap} {locs : List Loc} {cells slots : Nat} {Q : State → Prop}
variable {cc : ByteArray} {pc nL idx : Nat} {ls : Array Slot} {rest : List Value} {lv : List (Nat × Value)} {A : Nat → Prop} {H0 : Heap} {own : String}
theorem call_X_odds {D : va_G} {ct : Nat → ClassId} {a : XA} {ρ : Option Nat} {st : XS} {a1 : Int32} {a2 : Int32} {z : (XS × Int32)} (S : CallFix p m c cc nL s args lw_all own) (hl : lv_has ls nL lv) (hE : gEX s) (hK : va_K D clA (tysG ct) s) (hH : GH D A (xAs a) H0 (WX ct a ρ st) H locs) (hlk : Cond.methodLink own idx yX0_odds ∈ lw_all) (hv : X_odds st a1 a2 = some z) (hR : 9 ≤ R.frames ∧ 241 ≤ R.locals) (hsum : (rest.map fun v => v.category).sum ≤ 8) (hdg : decode cc pc = .ok (.invokevirtual idx, 3)) (hf : cells ≤ R.cells ∧ slots ≤ R.slots)
    (k : ∀ (H1 : Heap) (locs1 : List Loc), GH D A (xAs a) H0 (WX ct a ρ z.1) H1 locs1 → W p l e R s m args below meth c H1 locs1 cells slots Q (F0 m (pc + 3) ls (.int z.2 :: rest))) : W p l e R s m args below meth c H locs cells slots Q (F0 m pc ls (.int a2 :: .int a1 :: .ref (ah a 0) :: rest)) :=
  g_calli (av := [.int a1, .int a2]) S hl gEX_ok hE hK hH (met_X_odds l D ct a ρ H.size st a1 a2 z hv) (lw_V hlk q805 q806 q69 q807) rfl rfl ⟨rfl, by decide, by decide, by show (parseMethodDescriptor yX0_odds.desc).map (fun d => d.parameters.length) = some 2; decide +kernel⟩ hR (x_recv hK hH) (fun _ h => Or.inl h) rfl hsum hdg hf k
end CR_X_odds
/-! CapCouncil.mid (I)I -/
def X_mid (st : XS) (a1 : Int32) : Option (XS × Int32) :=
  (X_isIn a1 (0 : Int32) (12 : Int32)).bind fun v1 =>
  if v1 = 0 then
    (some (st, (-1 : Int32)))
  else
    (if (xi st 2) = 0 then
      (some (st, (-4 : Int32)))
    else
      ((X_sumsBy st (((1 : Int32) <<< ((xi st 3) &&& 31)) - (1 : Int32)) a1).bind fun q4 =>
      some (q4.1, q4.2)))
def rm_X_mid : Room := { frames := 8, cells := 0, slots := 0, locals := 219 }
set_option maxHeartbeats 4000000 in
set_option maxRecDepth 100000 in
theorem met_X_mid (l : Launch) (D : va_G) (ct : Nat → ClassId) (a : XA) (ρ : Option Nat) (sz : Nat) (st : XS) (a1 : Int32) (z : (XS × Int32)) (hd : X_mid st a1 = some z) : Met l yX0_mid (ws_ yX0_mid cX0_mid 2 (some .int)) rm_X_mid (GPre gEX D ct (xAs a) (WX ct a ρ st) sz [.ref (ah a 0), .int a1]) (GQi D (xAs a) (xAs a) (WX ct a ρ z.1) sz z.2) 0 0 (gA (xAs a) sz) := by
  refine g_met (cc := cX0_mid) (maxL := 2) (ret := (some .int)) (by decide) (Nat.le_of_ble_eq_true rfl) ?_
  intro p e U m args below meth c ls S hr hlk hK hH hE hsz hl
  have S : CallFix p m c cX0_mid 2 U args lw_all RX0 := S
  have hx := S.1
  have hb := S.2.1
  have hl : lv_has ls 2 [(0, .ref (ah a 0)), (1, .int a1)] := hl
  unfold X_mid at hd
  refine lv_iload_n (pc := 0) hx hb dX0_mid_0 rfl (lv_at hl 1 rfl) ?_
  refine lv_iconst (v := (0 : Int32)) (pc := 1) hx hb dX0_mid_1 (by decide) ?_
  refine lv_bipush (v := (12 : Int32)) (pc := 2) hx hb dX0_mid_2 (by decide) ?_
  obtain ⟨v1, hv1, hd⟩ := bs_bd hd
  refine call_X_isIn (pc := 4) S hl q285 hv1 ⟨Nat.le_of_ble_eq_true rfl, Nat.le_of_ble_eq_true rfl⟩ (Nat.le_of_ble_eq_true rfl) dX0_mid_4 ⟨Nat.zero_le _, Nat.zero_le _⟩ ?_
  refine lv_if_ne (pc := 7) (tgt := 12) hx hb dX0_mid_7 (by decide) (fun c2 => ?_) (fun c2 => ?_)
  · have hd := if_n c2 hd
    refine lv_aload_n (pc := 12) hx hb dX0_mid_12 rfl (lv_at hl 0 rfl) ?_
    refine xg_ringMany (pc := 13) S hK hH dX0_mid_13 ?_
    refine lv_if_ne (pc := 16) (tgt := 24) hx hb dX0_mid_16 (by decide) (fun c3 => ?_) (fun c3 => ?_)
    · have hd := if_n c3 hd
      refine lv_aload_n (pc := 24) hx hb dX0_mid_24 rfl (lv_at hl 0 rfl) ?_
      refine lv_iconst (v := (1 : Int32)) (pc := 25) hx hb dX0_mid_25 (by decide) ?_
      refine lv_aload_n (pc := 26) hx hb dX0_mid_26 rfl (lv_at hl 0 rfl) ?_
      refine xg_bedMany (pc := 27) S hK hH dX0_mid_27 ?_
      refine lv_ishl (pc := 30) hx hb dX0_mid_30 ?_
      refine lv_iconst (v := (1 : Int32)) (pc := 31) hx hb dX0_mid_31 (by decide) ?_
      refine lv_isub (pc := 32) hx hb dX0_mid_32 ?_
      refine lv_iload_n (pc := 33) hx hb dX0_mid_33 rfl (lv_at hl 1 rfl) ?_
      obtain ⟨q4, hq4, hd⟩ := bs_bd hd
      refine call_X_sumsBy (pc := 34) S hl hE hK hH q808 hq4 ⟨Nat.le_of_ble_eq_true rfl, Nat.le_of_ble_eq_true rfl⟩ (Nat.le_of_ble_eq_true rfl) dX0_mid_34 ⟨Nat.zero_le _, Nat.zero_le _⟩ (fun H locs hH => ?_)
      exact g_iret (WX ct a ρ) hd S hr hlk hH dX0_mid_37
    · have hd := if_t c3 hd
      refine lv_bipush (v := (-4 : Int32)) (pc := 19) hx hb dX0_mid_19 (by decide) ?_
      refine lv_goto (pc := 21) (tgt := 37) hx hb dX0_mid_21 (by decide) ?_
      exact g_iret (WX ct a ρ) hd S hr hlk hH dX0_mid_37
  · have hd := if_t c2 hd
    refine lv_iconst (v := (-1 : Int32)) (pc := 10) hx hb dX0_mid_10 (by decide) ?_
    exact g_iret (WX ct a ρ) hd S hr hlk hH dX0_mid_11
section CR_X_mid
variable {p : Program} {l : Launch} {e : Env} {R : Room} {s : State} {m : MethodId} {args : Array Value} {below : List Frame} {meth : Method} {c : Code} {H : Heap} {locs : List Loc} {cells slots : Nat} {Q : State → Prop}
variable {cc : ByteArray} {pc nL idx : Nat} {ls : Array Slot} {rest : List Value} {lv : List (Nat × Value)} {A : Nat → Prop} {H0 : Heap} {own : String}
theorem call_X_mid {D : va_G} {ct : Nat → ClassId} {a : XA} {ρ : Option Nat} {st : XS} {a1 : Int32} {z : (XS × Int32)} (S : CallFix p m c cc nL s args lw_all own) (hl : lv_has ls nL lv) (hE : gEX s) (hK : va_K D clA (tysG ct) s) (hH : GH D A (xAs a) H0 (WX ct a ρ st) H locs) (hlk : Cond.methodLink own idx yX0_mid ∈ lw_all) (hv : X_mid st a1 = some z) (hR : 9 ≤ R.frames ∧ 240 ≤ R.locals) (hsum : (rest.map fun v => v.category).sum ≤ 8) (hdg : decode cc pc = .ok (.invokevirtual idx, 3)) (hf : cells ≤ R.cells ∧ slots ≤ R.slots)
    (k : ∀ (H1 : Heap) (locs1 : List Loc), GH D A (xAs a) H0 (WX ct a ρ z.1) H1 locs1 → W p l e R s m args below meth c H1 locs1 cells slots Q (F0 m (pc + 3) ls (.int z.2 :: rest))) : W p l e R s m args below meth c H locs cells slots Q (F0 m pc ls (.int a1 :: .ref (ah a 0) :: rest)) :=
  g_calli (av := [.int a1]) S hl gEX_ok hE hK hH (met_X_mid l D ct a ρ H.size st a1 z hv) (lw_V hlk q818 q819 q69 q820) rfl rfl ⟨rfl, by decide, by decide, by show (parseMethodDescriptor yX0_mid.desc).map (fun d => d.parameters.length) = some 1; decide +kernel⟩ hR (x_recv hK hH) (fun _ h => Or.inl h) rfl hsum hdg hf k
end CR_X_mid
/-! CapCouncil.lots (II)I -/
def X_lots_J141 (k53 : XS → Int64 → Int32 → Option (XS × Int32)) (a1 : Int32) (a2 : Int32) (st : XS) (x3 : Int64) (x5 : Int32) : Option (XS × Int32) :=
  bs_nzl (((xi st 3)).toInt64) <|
  (xast st 5 6 ((((x3 / (8 : Int64)) - (x3 / (8 : Int64)) / (((xi st 3)).toInt64) * (((xi st 3)).toInt64))).toInt32) ((((x3 / (64 : Int64)) - (x3 / (64 : Int64)) / (100 : Int64) * (100 : Int64))).toInt32)).bind fun s24 =>
  bs_let (x5 + (1 : Int32)) fun w25 =>
  k53 s24 x3 w25
def X_lots_L53 (k174 : XS → Option (XS × Int32)) (a1 : Int32) (a2 : Int32) : Nat → XS → Int64 → Int32 → Option (XS × Int32)
  | 0, _, _, _ => none
  | n + 1, st, x3, x5 =>
    if a1 ≤ x5 then
      (k174 st)
    else
      (bs_let (((48271 : Int64) * x3) - ((48271 : Int64) * x3) / (2147483647 : Int64) * (2147483647 : Int64)) fun w9 =>
      (X_note st).bind fun q10 =>
      if (lg_cmp (w9 - w9 / (3 : Int64) * (3 : Int64)) (0 : Int64)) = 0 then
        (bs_nzl (((xi q10 2)).toInt64) <|
        bs_let ((xi q10 8) ^^^ ((1 : Int32) <<< (((((w9 / (8 : Int64)) - (w9 / (8 : Int64)) / (((xi q10 2)).toInt64) * (((xi q10 2)).toInt64))).toInt32) &&& 31))) fun w18 =>
        bs_let (sxi q10 8 w18) fun s19 =>
        bs_let (x5 + (1 : Int32)) fun w20 =>
        X_lots_L53 k174 a1 a2 n s19 w9 w20)
      else
        (if (lg_cmp (w9 - w9 / (3 : Int64) * (3 : Int64)) (1 : Int64)) = 0 then
          (if (40 : Int32) ≤ (xi q10 7) then
            (X_lots_J141 (X_lots_L53 k174 a1 a2 n) a1 a2 q10 w9 x5)
          else
            (bs_let ((xi q10 7) + (1 : Int32)) fun w14 =>
            bs_let (sxi q10 7 w14) fun s15 =>
            bs_let (x5 + (1 : Int32)) fun w16 =>
            X_lots_L53 k174 a1 a2 n s15 w9 w16))
        else
          (X_lots_J141 (X_lots_L53 k174 a1 a2 n) a1 a2 q10 w9 x5)))
def X_lots_J174 (a1 : Int32) (a2 : Int32) (st : XS) : Option (XS × Int32) :=
  (X_seated st).bind fun v21 =>
  (J11_bitCount v21).bind fun v22 =>
  some (st, v22)
def X_lots (st : XS) (a1 : Int32) (a2 : Int32) : Option (XS × Int32) :=
  (X_isIn a1 (1 : Int32) (20 : Int32)).bind fun v1 =>
  if v1 = 0 then
    (some (st, (-1 : Int32)))
  else
    ((X_isIn a2 (1 : Int32) (2147483646 : Int32)).bind fun v3 =>
    if v3 = 0 then
      (some (st, (-1 : Int32)))
    else
      (if (xi st 2) = 0 then
        (some (st, (-4 : Int32)))
      else
        (if ((xi st 9) + a1) ≤ (40 : Int32) then
          (bs_let (a2.toInt64) fun w7 =>
          X_lots_L53 (X_lots_J174 a1 a2) a1 a2 bs_fu st w7 (0 : Int32))
        else
          (some (st, (-2 : Int32))))))
def rm_X_lots : Room := { frames := 7, cells := 0, slots := 0, locals := 188 }
set_option maxHeartbeats 4000000 in
set_option maxRecDepth 100000 in
theorem met_X_lots (l : Launch) (D : va_G) (ct : Nat → ClassId) (a : XA) (ρ : Option Nat) (sz : Nat) (st : XS) (a1 : Int32) (a2 : Int32) (z : (XS × Int32)) (hd : X_lots st a1 a2 = some z) : Met l yX0_lots (ws_ yX0_lots cX0_lots 6 (some .int)) rm_X_lots (GPre gEX D ct (xAs a) (WX ct a ρ st) sz [.ref (ah a 0), .int a1, .int a2]) (GQi D (xAs a) (xAs a) (WX ct a ρ z.1) sz z.2) 0 0 (gA (xAs a) sz) := by
  refine g_met (cc := cX0_lots) (maxL := 6) (ret := (some .int)) (by decide) (Nat.le_of_ble_eq_true rfl) ?_
  intro p e U m args below meth c ls S hr hlk hK hH hE hsz hl
  have S : CallFix p m c cX0_lots 6 U args lw_all RX0 := S
  have hx := S.1
  have hb := S.2.1
  have hl : lv_has ls 6 [(0, .ref (ah a 0)), (1, .int a1), (2, .int a2)] := hl
  have h174 : ∀ (st : XS) (H : Heap) (locs : List Loc) (ls : Array Slot), GH D (gA (xAs a) sz) (xAs a) U.heap (WX ct a ρ st) H locs → lv_has ls 6 [(0, .ref (ah a 0)), (1, .int a1), (2, .int a2)] → X_lots_J174 a1 a2 st = some z → W p l e rm_X_lots U m args below meth c H locs 0 0 (MQ below (GQi D (xAs a) (xAs a) (WX ct a ρ z.1) sz z.2) args U 0 0 (gA (xAs a) sz)) (F0 m 174 ls []) := by
    intro st H locs ls hH hl hd
    unfold X_lots_J174 at hd
    refine lv_aload_n (pc := 174) hx hb dX0_lots_174 rfl (lv_at hl 0 rfl) ?_
    obtain ⟨v21, hv21, hd⟩ := bs_bd hd
    refine call_X_seated (pc := 175) S hl hE hK hH q665 hv21 ⟨Nat.le_of_ble_eq_true rfl, Nat.le_of_ble_eq_true rfl⟩ (Nat.le_of_ble_eq_true rfl) dX0_lots_175 ⟨Nat.zero_le _, Nat.zero_le _⟩ ?_
    obtain ⟨v22, hv22, hd⟩ := bs_bd hd
    refine call_J11_bitCount (pc := 178) S hl q669 hv22 ⟨Nat.le_of_ble_eq_true rfl, Nat.le_of_ble_eq_true rfl⟩ (Nat.le_of_ble_eq_true rfl) dX0_lots_178 ⟨Nat.zero_le _, Nat.zero_le _⟩ ?_
    exact g_iret (WX ct a ρ) hd S hr hlk hH dX0_lots_181
  have h53 : ∀ (n53 : Nat) (st : XS) (x3 : Int64) (x5 : Int32) (H : Heap) (locs : List Loc) (ls : Array Slot), GH D (gA (xAs a) sz) (xAs a) U.heap (WX ct a ρ st) H locs → lv_has ls 6 [(0, .ref (ah a 0)), (1, .int a1), (2, .int a2), (3, .long x3), (5, .int x5)] → X_lots_L53 (X_lots_J174 a1 a2) a1 a2 n53 st x3 x5 = some z → W p l e rm_X_lots U m args below meth c H locs 0 0 (MQ below (GQi D (xAs a) (xAs a) (WX ct a ρ z.1) sz z.2) args U 0 0 (gA (xAs a) sz)) (F0 m 53 ls []) := by
    intro n53
    induction n53 with
    | zero =>
      intro st x3 x5 H locs ls hH hl hd
      rw [X_lots_L53] at hd
      cases hd
    | succ n53 ih53 =>
      have h141 : ∀ (st : XS) (x3 : Int64) (x5 : Int32) (H : Heap) (locs : List Loc) (ls : Array Slot), GH D (gA (xAs a) sz) (xAs a) U.heap (WX ct a ρ st) H locs → lv_has ls 6 [(0, .ref (ah a 0)), (1, .int a1), (2, .int a2), (3, .long x3), (5, .int x5)] → X_lots_J141 (X_lots_L53 (X_lots_J174 a1 a2) a1 a2 n53) a1 a2 st x3 x5 = some z → W p l e rm_X_lots U m args below meth c H locs 0 0 (MQ below (GQi D (xAs a) (xAs a) (WX ct a ρ z.1) sz z.2) args U 0 0 (gA (xAs a) sz)) (F0 m 141 ls []) := by
        intro st x3 x5 H locs ls hH hl hd
        unfold X_lots_J141 at hd
        refine lv_aload_n (pc := 141) hx hb dX0_lots_141 rfl (lv_at hl 0 rfl) ?_
        refine xg_places (pc := 142) S hK hH dX0_lots_142 ?_
        refine lv_lload_n (pc := 145) hx hb dX0_lots_145 rfl (lv_at hl 3 rfl) ?_
        refine lv_ldc2 (pc := 146) (own := RX0) (v := (8 : Int64)) hx hb S.2.2.2.1 (S.2.2.2.2 _ q829) dX0_lots_146 ?_
        refine lv_ldiv (pc := 149) hx hb dX0_lots_149 (by decide) ?_
        refine lv_aload_n (pc := 150) hx hb dX0_lots_150 rfl (lv_at hl 0 rfl) ?_
        refine xg_bedMany (pc := 151) S hK hH dX0_lots_151 ?_
        refine lv_i2l (pc := 154) hx hb dX0_lots_154 rfl ?_
        obtain ⟨z23, hd⟩ := bs_nzl_spec hd
        refine lv_lrem (pc := 155) hx hb dX0_lots_155 z23 ?_
        refine lv_l2i (pc := 156) hx hb dX0_lots_156 rfl ?_
        refine lv_lload_n (pc := 157) hx hb dX0_lots_157 rfl (lv_at hl 3 rfl) ?_
        refine lv_ldc2 (pc := 158) (own := RX0) (v := (64 : Int64)) hx hb S.2.2.2.1 (S.2.2.2.2 _ q830) dX0_lots_158 ?_
        refine lv_ldiv (pc := 161) hx hb dX0_lots_161 (by decide) ?_
        refine lv_ldc2 (pc := 162) (own := RX0) (v := (100 : Int64)) hx hb S.2.2.2.1 (S.2.2.2.2 _ q831) dX0_lots_162 ?_
        refine lv_lrem (pc := 165) hx hb dX0_lots_165 (by decide) ?_
        refine lv_l2i (pc := 166) hx hb dX0_lots_166 rfl ?_
        obtain ⟨s24, hs24, hd⟩ := bs_bd hd
        refine xs_places (pc := 167) S hK hH hs24 dX0_lots_167 (fun H locs hH => ?_)
        obtain ⟨w25, ew25, hd⟩ := bs_let_spec hd
        refine lv_iinc (pc := 168) (v := w25) (lv' := [(5, .int w25), (0, .ref (ah a 0)), (1, .int a1), (2, .int a2), (3, .long x3)]) hx hb dX0_lots_168 hl (k := 4) rfl (by rw [ew25]; rfl) (by decide) rfl (fun ls hl => ?_)
        refine lv_goto (pc := 171) (tgt := 53) hx hb dX0_lots_171 (by decide) ?_
        exact ih53 s24 x3 w25 _ _ _ hH (lv_sub hl [1, 2, 3, 4, 0] rfl) hd
      intro st x3 x5 H locs ls hH hl hd
      rw [X_lots_L53] at hd
      refine lv_iload (pc := 53) hx hb dX0_lots_53 (lv_at hl 4 rfl) ?_
      refine lv_iload_n (pc := 55) hx hb dX0_lots_55 rfl (lv_at hl 1 rfl) ?_
      refine lv_icmp_ge (pc := 56) (tgt := 174) hx hb dX0_lots_56 (by decide) (fun c8 => ?_) (fun c8 => ?_)
      · have hd := if_t c8 hd
        exact h174 st _ _ _ hH (lv_sub hl [0, 1, 2] rfl) hd
      · have hd := if_n c8 hd
        refine lv_ldc2 (pc := 59) (own := RX0) (v := (48271 : Int64)) hx hb S.2.2.2.1 (S.2.2.2.2 _ q826) dX0_lots_59 ?_
        refine lv_lload_n (pc := 62) hx hb dX0_lots_62 rfl (lv_at hl 3 rfl) ?_
        refine lv_lmul (pc := 63) hx hb dX0_lots_63 ?_
        refine lv_ldc2 (pc := 64) (own := RX0) (v := (2147483647 : Int64)) hx hb S.2.2.2.1 (S.2.2.2.2 _ q827) dX0_lots_64 ?_
        refine lv_lrem (pc := 67) hx hb dX0_lots_67 (by decide) ?_
        obtain ⟨w9, ew9, hd⟩ := bs_let_spec hd
        refine lv_topEl (pc := 68) ew9 ?_
        refine lv_lstore_n (pc := 68) (lv' := [(3, .long w9), (0, .ref (ah a 0)), (1, .int a1), (2, .int a2), (5, .int x5)]) hx hb dX0_lots_68 rfl hl (by decide) rfl (fun ls hl => ?_)
        refine lv_aload_n (pc := 69) hx hb dX0_lots_69 rfl (lv_at hl 1 rfl) ?_
        obtain ⟨q10, hq10, hd⟩ := bs_bd hd
        refine call_X_note (pc := 70) S hl hE hK hH q657 hq10 ⟨Nat.le_of_ble_eq_true rfl, Nat.le_of_ble_eq_true rfl⟩ (Nat.le_of_ble_eq_true rfl) dX0_lots_70 ⟨Nat.zero_le _, Nat.zero_le _⟩ (fun H locs hH => ?_)
        refine lv_lload_n (pc := 73) hx hb dX0_lots_73 rfl (lv_at hl 0 rfl) ?_
        refine lv_ldc2 (pc := 74) (own := RX0) (v := (3 : Int64)) hx hb S.2.2.2.1 (S.2.2.2.2 _ q828) dX0_lots_74 ?_
        refine lv_lrem (pc := 77) hx hb dX0_lots_77 (by decide) ?_
        refine lv_lconst (v := (0 : Int64)) (pc := 78) hx hb dX0_lots_78 (by decide) ?_
        refine W.lcmp (pc := 79) hx hb dX0_lots_79 ?_
        refine lv_if_ne (pc := 80) (tgt := 109) hx hb dX0_lots_80 (by decide) (fun c11 => ?_) (fun c11 => ?_)
        · have hd := if_n c11 hd
          refine lv_lload_n (pc := 109) hx hb dX0_lots_109 rfl (lv_at hl 0 rfl) ?_
          refine lv_ldc2 (pc := 110) (own := RX0) (v := (3 : Int64)) hx hb S.2.2.2.1 (S.2.2.2.2 _ q828) dX0_lots_110 ?_
          refine lv_lrem (pc := 113) hx hb dX0_lots_113 (by decide) ?_
          refine lv_lconst (v := (1 : Int64)) (pc := 114) hx hb dX0_lots_114 (by decide) ?_
          refine W.lcmp (pc := 115) hx hb dX0_lots_115 ?_
          refine lv_if_ne (pc := 116) (tgt := 141) hx hb dX0_lots_116 (by decide) (fun c12 => ?_) (fun c12 => ?_)
          · have hd := if_n c12 hd
            exact h141 q10 w9 x5 _ _ _ hH (lv_sub hl [1, 2, 3, 0, 4] rfl) hd
          · have hd := if_t c12 hd
            refine lv_aload_n (pc := 119) hx hb dX0_lots_119 rfl (lv_at hl 1 rfl) ?_
            refine xg_yearNow (pc := 120) S hK hH dX0_lots_120 ?_
            refine lv_bipush (v := (40 : Int32)) (pc := 123) hx hb dX0_lots_123 (by decide) ?_
            refine lv_icmp_ge (pc := 125) (tgt := 141) hx hb dX0_lots_125 (by decide) (fun c13 => ?_) (fun c13 => ?_)
            · have hd := if_t c13 hd
              exact h141 q10 w9 x5 _ _ _ hH (lv_sub hl [1, 2, 3, 0, 4] rfl) hd
            · have hd := if_n c13 hd
              refine lv_aload_n (pc := 128) hx hb dX0_lots_128 rfl (lv_at hl 1 rfl) ?_
              refine lv_dup (pc := 129) hx hb dX0_lots_129 rfl ?_
              refine xg_yearNow (pc := 130) S hK hH dX0_lots_130 ?_
              refine lv_iconst (v := (1 : Int32)) (pc := 133) hx hb dX0_lots_133 (by decide) ?_
              refine lv_iadd (pc := 134) hx hb dX0_lots_134 ?_
              obtain ⟨w14, ew14, hd⟩ := bs_let_spec hd
              refine lv_topE (pc := 135) ew14 ?_
              obtain ⟨s15, es15, hd⟩ := bs_let_spec hd
              refine xp_yearNow (pc := 135) S hK hH dX0_lots_135 es15 (fun H locs hH => ?_)
              refine lv_goto (pc := 138) (tgt := 168) hx hb dX0_lots_138 (by decide) ?_
              obtain ⟨w16, ew16, hd⟩ := bs_let_spec hd
              refine lv_iinc (pc := 168) (v := w16) (lv' := [(5, .int w16), (3, .long w9), (0, .ref (ah a 0)), (1, .int a1), (2, .int a2)]) hx hb dX0_lots_168 hl (k := 4) rfl (by rw [ew16]; rfl) (by decide) rfl (fun ls hl => ?_)
              refine lv_goto (pc := 171) (tgt := 53) hx hb dX0_lots_171 (by decide) ?_
              exact ih53 s15 w9 w16 _ _ _ hH (lv_sub hl [2, 3, 4, 1, 0] rfl) hd
        · have hd := if_t c11 hd
          refine lv_aload_n (pc := 83) hx hb dX0_lots_83 rfl (lv_at hl 1 rfl) ?_
          refine lv_dup (pc := 84) hx hb dX0_lots_84 rfl ?_
          refine xg_up (pc := 85) S hK hH dX0_lots_85 ?_
          refine lv_iconst (v := (1 : Int32)) (pc := 88) hx hb dX0_lots_88 (by decide) ?_
          refine lv_lload_n (pc := 89) hx hb dX0_lots_89 rfl (lv_at hl 0 rfl) ?_
          refine lv_ldc2 (pc := 90) (own := RX0) (v := (8 : Int64)) hx hb S.2.2.2.1 (S.2.2.2.2 _ q829) dX0_lots_90 ?_
          refine lv_ldiv (pc := 93) hx hb dX0_lots_93 (by decide) ?_
          refine lv_aload_n (pc := 94) hx hb dX0_lots_94 rfl (lv_at hl 1 rfl) ?_
          refine xg_ringMany (pc := 95) S hK hH dX0_lots_95 ?_
          refine lv_i2l (pc := 98) hx hb dX0_lots_98 rfl ?_
          obtain ⟨z17, hd⟩ := bs_nzl_spec hd
          refine lv_lrem (pc := 99) hx hb dX0_lots_99 z17 ?_
          refine lv_l2i (pc := 100) hx hb dX0_lots_100 rfl ?_
          refine lv_ishl (pc := 101) hx hb dX0_lots_101 ?_
          refine lv_ixor (pc := 102) hx hb dX0_lots_102 ?_
          obtain ⟨w18, ew18, hd⟩ := bs_let_spec hd
          refine lv_topE (pc := 103) ew18 ?_
          obtain ⟨s19, es19, hd⟩ := bs_let_spec hd
          refine xp_up (pc := 103) S hK hH dX0_lots_103 es19 (fun H locs hH => ?_)
          refine lv_goto (pc := 106) (tgt := 168) hx hb dX0_lots_106 (by decide) ?_
          obtain ⟨w20, ew20, hd⟩ := bs_let_spec hd
          refine lv_iinc (pc := 168) (v := w20) (lv' := [(5, .int w20), (3, .long w9), (0, .ref (ah a 0)), (1, .int a1), (2, .int a2)]) hx hb dX0_lots_168 hl (k := 4) rfl (by rw [ew20]; rfl) (by decide) rfl (fun ls hl => ?_)
          refine lv_goto (pc := 171) (tgt := 53) hx hb dX0_lots_171 (by decide) ?_
          exact ih53 s19 w9 w20 _ _ _ hH (lv_sub hl [2, 3, 4, 1, 0] rfl) hd
  unfold X_lots at hd
  refine lv_iload_n (pc := 0) hx hb dX0_lots_0 rfl (lv_at hl 1 rfl) ?_
  refine lv_iconst (v := (1 : Int32)) (pc := 1) hx hb dX0_lots_1 (by decide) ?_
  refine lv_bipush (v := (20 : Int32)) (pc := 2) hx hb dX0_lots_2 (by decide) ?_
  obtain ⟨v1, hv1, hd⟩ := bs_bd hd
  refine call_X_isIn (pc := 4) S hl q285 hv1 ⟨Nat.le_of_ble_eq_true rfl, Nat.le_of_ble_eq_true rfl⟩ (Nat.le_of_ble_eq_true rfl) dX0_lots_4 ⟨Nat.zero_le _, Nat.zero_le _⟩ ?_
  refine lv_if_eq (pc := 7) (tgt := 21) hx hb dX0_lots_7 (by decide) (fun c2 => ?_) (fun c2 => ?_)
  · have hd := if_t c2 hd
    refine lv_iconst (v := (-1 : Int32)) (pc := 21) hx hb dX0_lots_21 (by decide) ?_
    exact g_iret (WX ct a ρ) hd S hr hlk hH dX0_lots_22
  · have hd := if_n c2 hd
    refine lv_iload_n (pc := 10) hx hb dX0_lots_10 rfl (lv_at hl 2 rfl) ?_
    refine lv_iconst (v := (1 : Int32)) (pc := 11) hx hb dX0_lots_11 (by decide) ?_
    refine lv_ldcw (pc := 12) (own := RX0) (v := (2147483646 : Int32)) hx hb S.2.2.2.1 (S.2.2.2.2 _ q825) dX0_lots_12 ?_
    obtain ⟨v3, hv3, hd⟩ := bs_bd hd
    refine call_X_isIn (pc := 15) S hl q285 hv3 ⟨Nat.le_of_ble_eq_true rfl, Nat.le_of_ble_eq_true rfl⟩ (Nat.le_of_ble_eq_true rfl) dX0_lots_15 ⟨Nat.zero_le _, Nat.zero_le _⟩ ?_
    refine lv_if_ne (pc := 18) (tgt := 23) hx hb dX0_lots_18 (by decide) (fun c4 => ?_) (fun c4 => ?_)
    · have hd := if_n c4 hd
      refine lv_aload_n (pc := 23) hx hb dX0_lots_23 rfl (lv_at hl 0 rfl) ?_
      refine xg_ringMany (pc := 24) S hK hH dX0_lots_24 ?_
      refine lv_if_ne (pc := 27) (tgt := 33) hx hb dX0_lots_27 (by decide) (fun c5 => ?_) (fun c5 => ?_)
      · have hd := if_n c5 hd
        refine lv_aload_n (pc := 33) hx hb dX0_lots_33 rfl (lv_at hl 0 rfl) ?_
        refine xg_deedMany (pc := 34) S hK hH dX0_lots_34 ?_
        refine lv_iload_n (pc := 37) hx hb dX0_lots_37 rfl (lv_at hl 1 rfl) ?_
        refine lv_iadd (pc := 38) hx hb dX0_lots_38 ?_
        refine lv_bipush (v := (40 : Int32)) (pc := 39) hx hb dX0_lots_39 (by decide) ?_
        refine lv_icmp_le (pc := 41) (tgt := 47) hx hb dX0_lots_41 (by decide) (fun c6 => ?_) (fun c6 => ?_)
        · have hd := if_t c6 hd
          refine lv_iload_n (pc := 47) hx hb dX0_lots_47 rfl (lv_at hl 2 rfl) ?_
          refine lv_i2l (pc := 48) hx hb dX0_lots_48 rfl ?_
          obtain ⟨w7, ew7, hd⟩ := bs_let_spec hd
          refine lv_topEl (pc := 49) ew7 ?_
          refine lv_lstore_n (pc := 49) (lv' := [(3, .long w7), (0, .ref (ah a 0)), (1, .int a1), (2, .int a2)]) hx hb dX0_lots_49 rfl hl (by decide) rfl (fun ls hl => ?_)
          refine lv_iconst (v := (0 : Int32)) (pc := 50) hx hb dX0_lots_50 (by decide) ?_
          refine lv_istore (pc := 51) (lv' := [(5, .int (0 : Int32)), (3, .long w7), (0, .ref (ah a 0)), (1, .int a1), (2, .int a2)]) hx hb dX0_lots_51 hl (by decide) rfl (fun ls hl => ?_)
          exact h53 bs_fu st w7 (0 : Int32) _ _ _ hH (lv_sub hl [2, 3, 4, 1, 0] rfl) hd
        · have hd := if_n c6 hd
          refine lv_bipush (v := (-2 : Int32)) (pc := 44) hx hb dX0_lots_44 (by decide) ?_
          exact g_iret (WX ct a ρ) hd S hr hlk hH dX0_lots_46
      · have hd := if_t c5 hd
        refine lv_bipush (v := (-4 : Int32)) (pc := 30) hx hb dX0_lots_30 (by decide) ?_
        exact g_iret (WX ct a ρ) hd S hr hlk hH dX0_lots_32
    · have hd := if_t c4 hd
      refine lv_iconst (v := (-1 : Int32)) (pc := 21) hx hb dX0_lots_21 (by decide) ?_
      exact g_iret (WX ct a ρ) hd S hr hlk hH dX0_lots_22
section CR_X_lots
variable {p : Program} {l : Launch} {e : Env} {R : Room} {s : State} {m : MethodId} {args : Array Value} {below : List Frame} {meth : Method} {c : Code} {H : Heap} {locs : List Loc} {cells slots : Nat} {Q : State → Prop}
variable {cc : ByteArray} {pc nL idx : Nat} {ls : Array Slot} {rest : List Value} {lv : List (Nat × Value)} {A : Nat → Prop} {H0 : Heap} {own : String}
theorem call_X_lots {D : va_G} {ct : Nat → ClassId} {a : XA} {ρ : Option Nat} {st : XS} {a1 : Int32} {a2 : Int32} {z : (XS × Int32)} (S : CallFix p m c cc nL s args lw_all own) (hl : lv_has ls nL lv) (hE : gEX s) (hK : va_K D clA (tysG ct) s) (hH : GH D A (xAs a) H0 (WX ct a ρ st) H locs) (hlk : Cond.methodLink own idx yX0_lots ∈ lw_all) (hv : X_lots st a1 a2 = some z) (hR : 8 ≤ R.frames ∧ 213 ≤ R.locals) (hsum : (rest.map fun v => v.category).sum ≤ 8) (hdg : decode cc pc = .ok (.invokevirtual idx, 3)) (hf : cells ≤ R.cells ∧ slots ≤ R.slots)
    (k : ∀ (H1 : Heap) (locs1 : List Loc), GH D A (xAs a) H0 (WX ct a ρ z.1) H1 locs1 → W p l e R s m args below meth c H1 locs1 cells slots Q (F0 m (pc + 3) ls (.int z.2 :: rest))) : W p l e R s m args below meth c H locs cells slots Q (F0 m pc ls (.int a2 :: .int a1 :: .ref (ah a 0) :: rest)) :=
  g_calli (av := [.int a1, .int a2]) S hl gEX_ok hE hK hH (met_X_lots l D ct a ρ H.size st a1 a2 z hv) (lw_V hlk q822 q823 q69 q824) rfl rfl ⟨rfl, by decide, by decide, by show (parseMethodDescriptor yX0_lots.desc).map (fun d => d.parameters.length) = some 2; decide +kernel⟩ hR (x_recv hK hH) (fun _ h => Or.inl h) rfl hsum hdg hf k
end CR_X_lots
/-! CapCouncil.asked ()I -/
def X_asked (st : XS) : Option Int32 :=
  some (xi st 1)
def rm_X_asked : Room := { frames := 0, cells := 0, slots := 0, locals := 0 }
set_option maxHeartbeats 4000000 in
set_option maxRecDepth 100000 in
theorem met_X_asked (l : Launch) (D : va_G) (ct : Nat → ClassId) (a : XA) (ρ : Option Nat) (sz : Nat) (st : XS) (z : Int32) (hd : X_asked st = some z) : Met l yX0_asked (ws_ yX0_asked cX0_asked 1 (some .int)) rm_X_asked (GPre gEX D ct (xAs a) (WX ct a ρ st) sz [.ref (ah a 0)]) (vp_Si (fun r => r = z)) 0 0 (fun _ => False) := by
  refine g_met (cc := cX0_asked) (maxL := 1) (ret := (some .int)) (by decide) (Nat.le_of_ble_eq_true rfl) ?_
  intro p e U m args below meth c ls S hr hlk hK hH hE hsz hl
  have S : CallFix p m c cX0_asked 1 U args lw_all RX0 := S
  have hx := S.1
  have hb := S.2.1
  have hl : lv_has ls 1 [(0, .ref (ah a 0))] := hl
  unfold X_asked at hd
  refine lv_aload_n (pc := 0) hx hb dX0_asked_0 rfl (lv_at hl 0 rfl) ?_
  refine xg_asked (pc := 1) S hK hH dX0_asked_1 ?_
  exact r_iret hd S hr hlk dX0_asked_4
section CR_X_asked
variable {p : Program} {l : Launch} {e : Env} {R : Room} {s : State} {m : MethodId} {args : Array Value} {below : List Frame} {meth : Method} {c : Code} {H : Heap} {locs : List Loc} {cells slots : Nat} {Q : State → Prop}
variable {cc : ByteArray} {pc nL idx : Nat} {ls : Array Slot} {rest : List Value} {lv : List (Nat × Value)} {A : Nat → Prop} {H0 : Heap} {own : String}
theorem call_X_asked {D : va_G} {ct : Nat → ClassId} {a : XA} {ρ : Option Nat} {st : XS} {z : Int32} (S : CallFix p m c cc nL s args lw_all own) (hl : lv_has ls nL lv) (hE : gEX s) (hK : va_K D clA (tysG ct) s) (hH : GH D A (xAs a) H0 (WX ct a ρ st) H locs) (hlk : Cond.methodLink own idx yX0_asked ∈ lw_all) (hv : X_asked st = some z) (hR : 1 ≤ R.frames ∧ 20 ≤ R.locals) (hsum : (rest.map fun v => v.category).sum ≤ 8) (hdg : decode cc pc = .ok (.invokevirtual idx, 3)) (hf : cells ≤ R.cells ∧ slots ≤ R.slots)
    (k : W p l e R s m args below meth c H locs cells slots Q (F0 m (pc + 3) ls (.int z :: rest))) : W p l e R s m args below meth c H locs cells slots Q (F0 m pc ls (.ref (ah a 0) :: rest)) :=
  r_calli (av := []) S hl gEX_ok hE hK hH (met_X_asked l D ct a ρ H.size st z hv) (lw_V hlk q833 q834 q69 q835) rfl rfl ⟨rfl, by decide, by decide, by show (parseMethodDescriptor yX0_asked.desc).map (fun d => d.parameters.length) = some 0; decide +kernel⟩ hR (x_recv hK hH) rfl hsum hdg hf k
end CR_X_asked
/-! CapCouncil.upper ()J -/
def X_upper (st : XS) : Option Int64 :=
  some (xl st 0)
def rm_X_upper : Room := { frames := 0, cells := 0, slots := 0, locals := 0 }
set_option maxHeartbeats 4000000 in
set_option maxRecDepth 100000 in
theorem met_X_upper (l : Launch) (D : va_G) (ct : Nat → ClassId) (a : XA) (ρ : Option Nat) (sz : Nat) (st : XS) (z : Int64) (hd : X_upper st = some z) : Met l yX0_upper (ws_ yX0_upper cX0_upper 1 (some .long)) rm_X_upper (GPre gEX D ct (xAs a) (WX ct a ρ st) sz [.ref (ah a 0)]) (vp_Sl (fun r => r = z)) 0 0 (fun _ => False) := by
  refine g_met (cc := cX0_upper) (maxL := 1) (ret := (some .long)) (by decide) (Nat.le_of_ble_eq_true rfl) ?_
  intro p e U m args below meth c ls S hr hlk hK hH hE hsz hl
  have S : CallFix p m c cX0_upper 1 U args lw_all RX0 := S
  have hx := S.1
  have hb := S.2.1
  have hl : lv_has ls 1 [(0, .ref (ah a 0))] := hl
  unfold X_upper at hd
  refine lv_aload_n (pc := 0) hx hb dX0_upper_0 rfl (lv_at hl 0 rfl) ?_
  refine xg_upper (pc := 1) S hK hH dX0_upper_1 ?_
  exact r_lret hd S hr hlk dX0_upper_4
section CR_X_upper
variable {p : Program} {l : Launch} {e : Env} {R : Room} {s : State} {m : MethodId} {args : Array Value} {below : List Frame} {meth : Method} {c : Code} {H : Heap} {locs : List Loc} {cells slots : Nat} {Q : State → Prop}
variable {cc : ByteArray} {pc nL idx : Nat} {ls : Array Slot} {rest : List Value} {lv : List (Nat × Value)} {A : Nat → Prop} {H0 : Heap} {own : String}
theorem call_X_upper {D : va_G} {ct : Nat → ClassId} {a : XA} {ρ : Option Nat} {st : XS} {z : Int64} (S : CallFix p m c cc nL s args lw_all own) (hl : lv_has ls nL lv) (hE : gEX s) (hK : va_K D clA (tysG ct) s) (hH : GH D A (xAs a) H0 (WX ct a ρ st) H locs) (hlk : Cond.methodLink own idx yX0_upper ∈ lw_all) (hv : X_upper st = some z) (hR : 1 ≤ R.frames ∧ 20 ≤ R.locals) (hsum : (rest.map fun v => v.category).sum ≤ 8) (hdg : decode cc pc = .ok (.invokevirtual idx, 3)) (hf : cells ≤ R.cells ∧ slots ≤ R.slots)
    (k : W p l e R s m args below meth c H locs cells slots Q (F0 m (pc + 3) ls (.long z :: rest))) : W p l e R s m args below meth c H locs cells slots Q (F0 m pc ls (.ref (ah a 0) :: rest)) :=
  r_calll (av := []) S hl gEX_ok hE hK hH (met_X_upper l D ct a ρ H.size st z hv) (lw_V hlk q837 q838 q69 q839) rfl rfl ⟨rfl, by decide, by decide, by show (parseMethodDescriptor yX0_upper.desc).map (fun d => d.parameters.length) = some 0; decide +kernel⟩ hR (x_recv hK hH) rfl hsum hdg hf k
end CR_X_upper
/-! CapCouncil.lower ()J -/
def X_lower (st : XS) : Option Int64 :=
  some (xl st 1)
def rm_X_lower : Room := { frames := 0, cells := 0, slots := 0, locals := 0 }
set_option maxHeartbeats 4000000 in
set_option maxRecDepth 100000 in
theorem met_X_lower (l : Launch) (D : va_G) (ct : Nat → ClassId) (a : XA) (ρ : Option Nat) (sz : Nat) (st : XS) (z : Int64) (hd : X_lower st = some z) : Met l yX0_lower (ws_ yX0_lower cX0_lower 1 (some .long)) rm_X_lower (GPre gEX D ct (xAs a) (WX ct a ρ st) sz [.ref (ah a 0)]) (vp_Sl (fun r => r = z)) 0 0 (fun _ => False) := by
  refine g_met (cc := cX0_lower) (maxL := 1) (ret := (some .long)) (by decide) (Nat.le_of_ble_eq_true rfl) ?_
  intro p e U m args below meth c ls S hr hlk hK hH hE hsz hl
  have S : CallFix p m c cX0_lower 1 U args lw_all RX0 := S
  have hx := S.1
  have hb := S.2.1
  have hl : lv_has ls 1 [(0, .ref (ah a 0))] := hl
  unfold X_lower at hd
  refine lv_aload_n (pc := 0) hx hb dX0_lower_0 rfl (lv_at hl 0 rfl) ?_
  refine xg_lower (pc := 1) S hK hH dX0_lower_1 ?_
  exact r_lret hd S hr hlk dX0_lower_4
section CR_X_lower
variable {p : Program} {l : Launch} {e : Env} {R : Room} {s : State} {m : MethodId} {args : Array Value} {below : List Frame} {meth : Method} {c : Code} {H : Heap} {locs : List Loc} {cells slots : Nat} {Q : State → Prop}
variable {cc : ByteArray} {pc nL idx : Nat} {ls : Array Slot} {rest : List Value} {lv : List (Nat × Value)} {A : Nat → Prop} {H0 : Heap} {own : String}
theorem call_X_lower {D : va_G} {ct : Nat → ClassId} {a : XA} {ρ : Option Nat} {st : XS} {z : Int64} (S : CallFix p m c cc nL s args lw_all own) (hl : lv_has ls nL lv) (hE : gEX s) (hK : va_K D clA (tysG ct) s) (hH : GH D A (xAs a) H0 (WX ct a ρ st) H locs) (hlk : Cond.methodLink own idx yX0_lower ∈ lw_all) (hv : X_lower st = some z) (hR : 1 ≤ R.frames ∧ 20 ≤ R.locals) (hsum : (rest.map fun v => v.category).sum ≤ 8) (hdg : decode cc pc = .ok (.invokevirtual idx, 3)) (hf : cells ≤ R.cells ∧ slots ≤ R.slots)
    (k : W p l e R s m args below meth c H locs cells slots Q (F0 m (pc + 3) ls (.long z :: rest))) : W p l e R s m args below meth c H locs cells slots Q (F0 m pc ls (.ref (ah a 0) :: rest)) :=
  r_calll (av := []) S hl gEX_ok hE hK hH (met_X_lower l D ct a ρ H.size st z hv) (lw_V hlk q841 q842 q69 q843) rfl rfl ⟨rfl, by decide, by decide, by show (parseMethodDescriptor yX0_lower.desc).map (fun d => d.parameters.length) = some 0; decide +kernel⟩ hR (x_recv hK hH) rfl hsum hdg hf k
end CR_X_lower
/-! CapCouncil.olds ()I -/
def X_olds_L4 (st : XS) : Nat → Int32 → Int32 → Option Int32
  | 0, _, _ => none
  | n + 1, x1, x2 =>
    if (xi st 2) ≤ x2 then
      (some x1)
    else
      ((bs_ix 5 x2).bind fun v2 =>
      (X_rIs st (6 + v2) (1 : Int32)).bind fun v3 =>
      if v3 = 0 then
        (bs_let (x1 + (0 : Int32)) fun w5 =>
        bs_let (x2 + (1 : Int32)) fun w6 =>
        X_olds_L4 st n w5 w6)
      else
        (bs_let (x1 + (1 : Int32)) fun w7 =>
        bs_let (x2 + (1 : Int32)) fun w8 =>
        X_olds_L4 st n w7 w8))
def X_olds (st : XS) : Option Int32 :=
  X_olds_L4 st bs_fu (0 : Int32) (0 : Int32)
def rm_X_olds : Room := { frames := 3, cells := 0, slots := 0, locals := 96 }
set_option maxHeartbeats 4000000 in
set_option maxRecDepth 100000 in
theorem met_X_olds (l : Launch) (D : va_G) (ct : Nat → ClassId) (a : XA) (ρ : Option Nat) (sz : Nat) (st : XS) (z : Int32) (hd : X_olds st = some z) : Met l yX0_olds (ws_ yX0_olds cX0_olds 3 (some .int)) rm_X_olds (GPre gEX D ct (xAs a) (WX ct a ρ st) sz [.ref (ah a 0)]) (vp_Si (fun r => r = z)) 0 0 (fun _ => False) := by
  refine g_met (cc := cX0_olds) (maxL := 3) (ret := (some .int)) (by decide) (Nat.le_of_ble_eq_true rfl) ?_
  intro p e U m args below meth c ls S hr hlk hK hH hE hsz hl
  have S : CallFix p m c cX0_olds 3 U args lw_all RX0 := S
  have hx := S.1
  have hb := S.2.1
  have hl : lv_has ls 3 [(0, .ref (ah a 0))] := hl
  have h4 : ∀ (n4 : Nat) (x1 : Int32) (x2 : Int32) (ls : Array Slot), lv_has ls 3 [(0, .ref (ah a 0)), (1, .int x1), (2, .int x2)] → X_olds_L4 st n4 x1 x2 = some z → W p l e rm_X_olds U m args below meth c U.heap [] 0 0 (MQ below (vp_Si (fun r => r = z)) args U 0 0 (fun _ => False)) (F0 m 4 ls []) := by
    intro n4
    induction n4 with
    | zero =>
      intro x1 x2 ls hl hd
      rw [X_olds_L4] at hd
      cases hd
    | succ n4 ih4 =>
      intro x1 x2 ls hl hd
      rw [X_olds_L4] at hd
      refine lv_iload_n (pc := 4) hx hb dX0_olds_4 rfl (lv_at hl 2 rfl) ?_
      refine lv_aload_n (pc := 5) hx hb dX0_olds_5 rfl (lv_at hl 0 rfl) ?_
      refine xg_ringMany (pc := 6) S hK hH dX0_olds_6 ?_
      refine lv_icmp_ge (pc := 9) (tgt := 39) hx hb dX0_olds_9 (by decide) (fun c1 => ?_) (fun c1 => ?_)
      · have hd := if_t c1 hd
        refine lv_iload_n (pc := 39) hx hb dX0_olds_39 rfl (lv_at hl 1 rfl) ?_
        exact r_iret hd S hr hlk dX0_olds_40
      · have hd := if_n c1 hd
        refine lv_iload_n (pc := 12) hx hb dX0_olds_12 rfl (lv_at hl 1 rfl) ?_
        refine lv_aload_n (pc := 13) hx hb dX0_olds_13 rfl (lv_at hl 0 rfl) ?_
        refine xg_rings (pc := 14) S hK hH dX0_olds_14 ?_
        refine lv_iload_n (pc := 17) hx hb dX0_olds_17 rfl (lv_at hl 2 rfl) ?_
        obtain ⟨v2, hv2, hd⟩ := bs_bd hd
        refine xq_rings (pc := 18) S hK hH hv2 dX0_olds_18 ?_
        refine lv_iconst (v := (1 : Int32)) (pc := 19) hx hb dX0_olds_19 (by decide) ?_
        obtain ⟨v3, hv3, hd⟩ := bs_bd hd
        refine call_X_rIs (pc := 20) S hl hK hH (Nat.add_lt_add_left (bs_ix_lt hv2) 6) q856 hv3 ⟨Nat.le_of_ble_eq_true rfl, Nat.le_of_ble_eq_true rfl⟩ (Nat.le_of_ble_eq_true rfl) dX0_olds_20 ⟨Nat.zero_le _, Nat.zero_le _⟩ ?_
        refine lv_if_eq (pc := 23) (tgt := 30) hx hb dX0_olds_23 (by decide) (fun c4 => ?_) (fun c4 => ?_)
        · have hd := if_t c4 hd
          refine lv_iconst (v := (0 : Int32)) (pc := 30) hx hb dX0_olds_30 (by decide) ?_
          refine lv_iadd (pc := 31) hx hb dX0_olds_31 ?_
          obtain ⟨w5, ew5, hd⟩ := bs_let_spec hd
          refine lv_topE (pc := 32) ew5 ?_
          refine lv_istore_n (pc := 32) (lv' := [(1, .int w5), (0, .ref (ah a 0)), (2, .int x2)]) hx hb dX0_olds_32 rfl hl (by decide) rfl (fun ls hl => ?_)
          obtain ⟨w6, ew6, hd⟩ := bs_let_spec hd
          refine lv_iinc (pc := 33) (v := w6) (lv' := [(2, .int w6), (1, .int w5), (0, .ref (ah a 0))]) hx hb dX0_olds_33 hl (k := 2) rfl (by rw [ew6]; rfl) (by decide) rfl (fun ls hl => ?_)
          refine lv_goto (pc := 36) (tgt := 4) hx hb dX0_olds_36 (by decide) ?_
          exact ih4 w5 w6 _ (lv_sub hl [2, 1, 0] rfl) hd
        · have hd := if_n c4 hd
          refine lv_iconst (v := (1 : Int32)) (pc := 26) hx hb dX0_olds_26 (by decide) ?_
          refine lv_goto (pc := 27) (tgt := 31) hx hb dX0_olds_27 (by decide) ?_
          refine lv_iadd (pc := 31) hx hb dX0_olds_31 ?_
          obtain ⟨w7, ew7, hd⟩ := bs_let_spec hd
          refine lv_topE (pc := 32) ew7 ?_
          refine lv_istore_n (pc := 32) (lv' := [(1, .int w7), (0, .ref (ah a 0)), (2, .int x2)]) hx hb dX0_olds_32 rfl hl (by decide) rfl (fun ls hl => ?_)
          obtain ⟨w8, ew8, hd⟩ := bs_let_spec hd
          refine lv_iinc (pc := 33) (v := w8) (lv' := [(2, .int w8), (1, .int w7), (0, .ref (ah a 0))]) hx hb dX0_olds_33 hl (k := 2) rfl (by rw [ew8]; rfl) (by decide) rfl (fun ls hl => ?_)
          refine lv_goto (pc := 36) (tgt := 4) hx hb dX0_olds_36 (by decide) ?_
          exact ih4 w7 w8 _ (lv_sub hl [2, 1, 0] rfl) hd
  unfold X_olds at hd
  refine lv_iconst (v := (0 : Int32)) (pc := 0) hx hb dX0_olds_0 (by decide) ?_
  refine lv_istore_n (pc := 1) (lv' := [(1, .int (0 : Int32)), (0, .ref (ah a 0))]) hx hb dX0_olds_1 rfl hl (by decide) rfl (fun ls hl => ?_)
  refine lv_iconst (v := (0 : Int32)) (pc := 2) hx hb dX0_olds_2 (by decide) ?_
  refine lv_istore_n (pc := 3) (lv' := [(2, .int (0 : Int32)), (1, .int (0 : Int32)), (0, .ref (ah a 0))]) hx hb dX0_olds_3 rfl hl (by decide) rfl (fun ls hl => ?_)
  exact h4 bs_fu (0 : Int32) (0 : Int32) _ (lv_sub hl [2, 1, 0] rfl) hd
section CR_X_olds
variable {p : Program} {l : Launch} {e : Env} {R : Room} {s : State} {m : MethodId} {args : Array Value} {below : List Frame} {meth : Method} {c : Code} {H : Heap} {locs : List Loc} {cells slots : Nat} {Q : State → Prop}
variable {cc : ByteArray} {pc nL idx : Nat} {ls : Array Slot} {rest : List Value} {lv : List (Nat × Value)} {A : Nat → Prop} {H0 : Heap} {own : String}
theorem call_X_olds {D : va_G} {ct : Nat → ClassId} {a : XA} {ρ : Option Nat} {st : XS} {z : Int32} (S : CallFix p m c cc nL s args lw_all own) (hl : lv_has ls nL lv) (hE : gEX s) (hK : va_K D clA (tysG ct) s) (hH : GH D A (xAs a) H0 (WX ct a ρ st) H locs) (hlk : Cond.methodLink own idx yX0_olds ∈ lw_all) (hv : X_olds st = some z) (hR : 4 ≤ R.frames ∧ 118 ≤ R.locals) (hsum : (rest.map fun v => v.category).sum ≤ 8) (hdg : decode cc pc = .ok (.invokevirtual idx, 3)) (hf : cells ≤ R.cells ∧ slots ≤ R.slots)
    (k : W p l e R s m args below meth c H locs cells slots Q (F0 m (pc + 3) ls (.int z :: rest))) : W p l e R s m args below meth c H locs cells slots Q (F0 m pc ls (.ref (ah a 0) :: rest)) :=
  r_calli (av := []) S hl gEX_ok hE hK hH (met_X_olds l D ct a ρ H.size st z hv) (lw_V hlk q854 qs32 q69 q855) rfl rfl ⟨rfl, by decide, by decide, by show (parseMethodDescriptor yX0_olds.desc).map (fun d => d.parameters.length) = some 0; decide +kernel⟩ hR (x_recv hK hH) rfl hsum hdg hf k
end CR_X_olds
/-! CapCouncil.thereOf (I)I -/
def X_thereOf_J46 (k4 : Int32 → Int32 → Option Int32) (st : XS) (a1 : Int32) (x3 : Int32) (y0 : Int32) : Option Int32 :=
  if a1 = (10 : Int32) then
    (if (3 : Int32) ≤ x3 then
      (bs_let (y0 + (0 : Int32)) fun w17 =>
      bs_let (x3 + (1 : Int32)) fun w18 =>
      k4 w17 w18)
    else
      ((bs_ix 3 x3).bind fun v19 =>
      if (xk st v19).isSome = true then
        (bs_let (y0 + (1 : Int32)) fun w23 =>
        bs_let (x3 + (1 : Int32)) fun w24 =>
        k4 w23 w24)
      else
        (bs_let (y0 + (0 : Int32)) fun w21 =>
        bs_let (x3 + (1 : Int32)) fun w22 =>
        k4 w21 w22)))
  else
    (bs_let (y0 + (0 : Int32)) fun w14 =>
    bs_let (x3 + (1 : Int32)) fun w15 =>
    k4 w14 w15)
def X_thereOf_J26 (k4 : Int32 → Int32 → Option Int32) (st : XS) (a1 : Int32) (x3 : Int32) (y0 : Int32) : Option Int32 :=
  if a1 = (9 : Int32) then
    (if (4 : Int32) ≤ x3 then
      (X_thereOf_J46 (k4) st a1 x3 y0)
    else
      ((bs_ix 4 x3).bind fun v9 =>
      if (xr st (6 + v9)).isSome = true then
        (bs_let (y0 + (1 : Int32)) fun w11 =>
        bs_let (x3 + (1 : Int32)) fun w12 =>
        k4 w11 w12)
      else
        (X_thereOf_J46 (k4) st a1 x3 y0)))
  else
    (X_thereOf_J46 (k4) st a1 x3 y0)
def X_thereOf_L4 (st : XS) (a1 : Int32) : Nat → Int32 → Int32 → Option Int32
  | 0, _, _ => none
  | n + 1, x2, x3 =>
    if (6 : Int32) ≤ x3 then
      (some x2)
    else
      (if a1 = (8 : Int32) then
        ((bs_ix 6 x3).bind fun v3 =>
        if (xr st v3).isSome = true then
          (bs_let (x2 + (1 : Int32)) fun w5 =>
          bs_let (x3 + (1 : Int32)) fun w6 =>
          X_thereOf_L4 st a1 n w5 w6)
        else
          (X_thereOf_J26 (X_thereOf_L4 st a1 n) st a1 x3 x2))
      else
        (X_thereOf_J26 (X_thereOf_L4 st a1 n) st a1 x3 x2))
def X_thereOf (st : XS) (a1 : Int32) : Option Int32 :=
  X_thereOf_L4 st a1 bs_fu (0 : Int32) (0 : Int32)
def rm_X_thereOf : Room := { frames := 0, cells := 0, slots := 0, locals := 0 }
set_option maxHeartbeats 4000000 in
set_option maxRecDepth 100000 in
theorem met_X_thereOf (l : Launch) (D : va_G) (ct : Nat → ClassId) (a : XA) (ρ : Option Nat) (sz : Nat) (st : XS) (a1 : Int32) (z : Int32) (hd : X_thereOf st a1 = some z) : Met l yX0_thereOf (ws_ yX0_thereOf cX0_thereOf 4 (some .int)) rm_X_thereOf (GPre gEX D ct (xAs a) (WX ct a ρ st) sz [.ref (ah a 0), .int a1]) (vp_Si (fun r => r = z)) 0 0 (fun _ => False) := by
  refine g_met (cc := cX0_thereOf) (maxL := 4) (ret := (some .int)) (by decide) (Nat.le_of_ble_eq_true rfl) ?_
  intro p e U m args below meth c ls S hr hlk hK hH hE hsz hl
  have S : CallFix p m c cX0_thereOf 4 U args lw_all RX0 := S
  have hx := S.1
  have hb := S.2.1
  have hl : lv_has ls 4 [(0, .ref (ah a 0)), (1, .int a1)] := hl
  have h4 : ∀ (n4 : Nat) (x2 : Int32) (x3 : Int32) (ls : Array Slot), lv_has ls 4 [(0, .ref (ah a 0)), (1, .int a1), (2, .int x2), (3, .int x3)] → X_thereOf_L4 st a1 n4 x2 x3 = some z → W p l e rm_X_thereOf U m args below meth c U.heap [] 0 0 (MQ below (vp_Si (fun r => r = z)) args U 0 0 (fun _ => False)) (F0 m 4 ls []) := by
    intro n4
    induction n4 with
    | zero =>
      intro x2 x3 ls hl hd
      rw [X_thereOf_L4] at hd
      cases hd
    | succ n4 ih4 =>
      have h46 : ∀ (x3 : Int32) (y0 : Int32) (ls : Array Slot), lv_has ls 4 [(0, .ref (ah a 0)), (1, .int a1), (3, .int x3)] → X_thereOf_J46 (X_thereOf_L4 st a1 n4) st a1 x3 y0 = some z → W p l e rm_X_thereOf U m args below meth c U.heap [] 0 0 (MQ below (vp_Si (fun r => r = z)) args U 0 0 (fun _ => False)) (F0 m 46 ls [.int y0]) := by
        intro x3 y0 ls hl hd
        unfold X_thereOf_J46 at hd
        refine lv_iload_n (pc := 46) hx hb dX0_thereOf_46 rfl (lv_at hl 1 rfl) ?_
        refine lv_bipush (v := (10 : Int32)) (pc := 47) hx hb dX0_thereOf_47 (by decide) ?_
        refine lv_icmp_ne (pc := 49) (tgt := 70) hx hb dX0_thereOf_49 (by decide) (fun c13 => ?_) (fun c13 => ?_)
        · have hd := if_n c13 hd
          refine lv_iconst (v := (0 : Int32)) (pc := 70) hx hb dX0_thereOf_70 (by decide) ?_
          refine lv_iadd (pc := 71) hx hb dX0_thereOf_71 ?_
          obtain ⟨w14, ew14, hd⟩ := bs_let_spec hd
          refine lv_topE (pc := 72) ew14 ?_
          refine lv_istore_n (pc := 72) (lv' := [(2, .int w14), (0, .ref (ah a 0)), (1, .int a1), (3, .int x3)]) hx hb dX0_thereOf_72 rfl hl (by decide) rfl (fun ls hl => ?_)
          obtain ⟨w15, ew15, hd⟩ := bs_let_spec hd
          refine lv_iinc (pc := 73) (v := w15) (lv' := [(3, .int w15), (2, .int w14), (0, .ref (ah a 0)), (1, .int a1)]) hx hb dX0_thereOf_73 hl (k := 3) rfl (by rw [ew15]; rfl) (by decide) rfl (fun ls hl => ?_)
          refine lv_goto (pc := 76) (tgt := 4) hx hb dX0_thereOf_76 (by decide) ?_
          exact ih4 w14 w15 _ (lv_sub hl [2, 3, 1, 0] rfl) hd
        · have hd := if_t c13 hd
          refine lv_iload_n (pc := 52) hx hb dX0_thereOf_52 rfl (lv_at hl 2 rfl) ?_
          refine lv_iconst (v := (3 : Int32)) (pc := 53) hx hb dX0_thereOf_53 (by decide) ?_
          refine lv_icmp_ge (pc := 54) (tgt := 70) hx hb dX0_thereOf_54 (by decide) (fun c16 => ?_) (fun c16 => ?_)
          · have hd := if_t c16 hd
            refine lv_iconst (v := (0 : Int32)) (pc := 70) hx hb dX0_thereOf_70 (by decide) ?_
            refine lv_iadd (pc := 71) hx hb dX0_thereOf_71 ?_
            obtain ⟨w17, ew17, hd⟩ := bs_let_spec hd
            refine lv_topE (pc := 72) ew17 ?_
            refine lv_istore_n (pc := 72) (lv' := [(2, .int w17), (0, .ref (ah a 0)), (1, .int a1), (3, .int x3)]) hx hb dX0_thereOf_72 rfl hl (by decide) rfl (fun ls hl => ?_)
            obtain ⟨w18, ew18, hd⟩ := bs_let_spec hd
            refine lv_iinc (pc := 73) (v := w18) (lv' := [(3, .int w18), (2, .int w17), (0, .ref (ah a 0)), (1, .int a1)]) hx hb dX0_thereOf_73 hl (k := 3) rfl (by rw [ew18]; rfl) (by decide) rfl (fun ls hl => ?_)
            refine lv_goto (pc := 76) (tgt := 4) hx hb dX0_thereOf_76 (by decide) ?_
            exact ih4 w17 w18 _ (lv_sub hl [2, 3, 1, 0] rfl) hd
          · have hd := if_n c16 hd
            refine lv_aload_n (pc := 57) hx hb dX0_thereOf_57 rfl (lv_at hl 0 rfl) ?_
            refine xg_kept (pc := 58) S hK hH dX0_thereOf_58 ?_
            refine lv_iload_n (pc := 61) hx hb dX0_thereOf_61 rfl (lv_at hl 2 rfl) ?_
            obtain ⟨v19, hv19, hd⟩ := bs_bd hd
            refine xq_kept (pc := 62) S hK hH hv19 dX0_thereOf_62 ?_
            refine lv_ifnullO (pc := 63) (tgt := 70) hx hb dX0_thereOf_63 (by decide) (fun c20 => ?_) (fun c20 => ?_)
            · have hd := if_n (fun h9 => c20 ((xo_k hH (bs_ix_lt hv19)).trans h9)) hd
              refine lv_iconst (v := (0 : Int32)) (pc := 70) hx hb dX0_thereOf_70 (by decide) ?_
              refine lv_iadd (pc := 71) hx hb dX0_thereOf_71 ?_
              obtain ⟨w21, ew21, hd⟩ := bs_let_spec hd
              refine lv_topE (pc := 72) ew21 ?_
              refine lv_istore_n (pc := 72) (lv' := [(2, .int w21), (0, .ref (ah a 0)), (1, .int a1), (3, .int x3)]) hx hb dX0_thereOf_72 rfl hl (by decide) rfl (fun ls hl => ?_)
              obtain ⟨w22, ew22, hd⟩ := bs_let_spec hd
              refine lv_iinc (pc := 73) (v := w22) (lv' := [(3, .int w22), (2, .int w21), (0, .ref (ah a 0)), (1, .int a1)]) hx hb dX0_thereOf_73 hl (k := 3) rfl (by rw [ew22]; rfl) (by decide) rfl (fun ls hl => ?_)
              refine lv_goto (pc := 76) (tgt := 4) hx hb dX0_thereOf_76 (by decide) ?_
              exact ih4 w21 w22 _ (lv_sub hl [2, 3, 1, 0] rfl) hd
            · have hd := if_t ((xo_k hH (bs_ix_lt hv19)).symm.trans c20) hd
              refine lv_iconst (v := (1 : Int32)) (pc := 66) hx hb dX0_thereOf_66 (by decide) ?_
              refine lv_goto (pc := 67) (tgt := 71) hx hb dX0_thereOf_67 (by decide) ?_
              refine lv_iadd (pc := 71) hx hb dX0_thereOf_71 ?_
              obtain ⟨w23, ew23, hd⟩ := bs_let_spec hd
              refine lv_topE (pc := 72) ew23 ?_
              refine lv_istore_n (pc := 72) (lv' := [(2, .int w23), (0, .ref (ah a 0)), (1, .int a1), (3, .int x3)]) hx hb dX0_thereOf_72 rfl hl (by decide) rfl (fun ls hl => ?_)
              obtain ⟨w24, ew24, hd⟩ := bs_let_spec hd
              refine lv_iinc (pc := 73) (v := w24) (lv' := [(3, .int w24), (2, .int w23), (0, .ref (ah a 0)), (1, .int a1)]) hx hb dX0_thereOf_73 hl (k := 3) rfl (by rw [ew24]; rfl) (by decide) rfl (fun ls hl => ?_)
              refine lv_goto (pc := 76) (tgt := 4) hx hb dX0_thereOf_76 (by decide) ?_
              exact ih4 w23 w24 _ (lv_sub hl [2, 3, 1, 0] rfl) hd
      have h26 : ∀ (x3 : Int32) (y0 : Int32) (ls : Array Slot), lv_has ls 4 [(0, .ref (ah a 0)), (1, .int a1), (3, .int x3)] → X_thereOf_J26 (X_thereOf_L4 st a1 n4) st a1 x3 y0 = some z → W p l e rm_X_thereOf U m args below meth c U.heap [] 0 0 (MQ below (vp_Si (fun r => r = z)) args U 0 0 (fun _ => False)) (F0 m 26 ls [.int y0]) := by
        intro x3 y0 ls hl hd
        unfold X_thereOf_J26 at hd
        refine lv_iload_n (pc := 26) hx hb dX0_thereOf_26 rfl (lv_at hl 1 rfl) ?_
        refine lv_bipush (v := (9 : Int32)) (pc := 27) hx hb dX0_thereOf_27 (by decide) ?_
        refine lv_icmp_ne (pc := 29) (tgt := 46) hx hb dX0_thereOf_29 (by decide) (fun c7 => ?_) (fun c7 => ?_)
        · have hd := if_n c7 hd
          exact h46 x3 y0 _ (lv_sub hl [0, 1, 2] rfl) hd
        · have hd := if_t c7 hd
          refine lv_iload_n (pc := 32) hx hb dX0_thereOf_32 rfl (lv_at hl 2 rfl) ?_
          refine lv_iconst (v := (4 : Int32)) (pc := 33) hx hb dX0_thereOf_33 (by decide) ?_
          refine lv_icmp_ge (pc := 34) (tgt := 46) hx hb dX0_thereOf_34 (by decide) (fun c8 => ?_) (fun c8 => ?_)
          · have hd := if_t c8 hd
            exact h46 x3 y0 _ (lv_sub hl [0, 1, 2] rfl) hd
          · have hd := if_n c8 hd
            refine lv_aload_n (pc := 37) hx hb dX0_thereOf_37 rfl (lv_at hl 0 rfl) ?_
            refine xg_texts (pc := 38) S hK hH dX0_thereOf_38 ?_
            refine lv_iload_n (pc := 41) hx hb dX0_thereOf_41 rfl (lv_at hl 2 rfl) ?_
            obtain ⟨v9, hv9, hd⟩ := bs_bd hd
            refine xq_texts (pc := 42) S hK hH hv9 dX0_thereOf_42 ?_
            refine lv_ifnonnullO (pc := 43) (tgt := 66) hx hb dX0_thereOf_43 (by decide) (fun c10 => ?_) (fun c10 => ?_)
            · have hd := if_t ((xo_r hH (Nat.add_lt_add_left (bs_ix_lt hv9) 6)).symm.trans c10) hd
              refine lv_iconst (v := (1 : Int32)) (pc := 66) hx hb dX0_thereOf_66 (by decide) ?_
              refine lv_goto (pc := 67) (tgt := 71) hx hb dX0_thereOf_67 (by decide) ?_
              refine lv_iadd (pc := 71) hx hb dX0_thereOf_71 ?_
              obtain ⟨w11, ew11, hd⟩ := bs_let_spec hd
              refine lv_topE (pc := 72) ew11 ?_
              refine lv_istore_n (pc := 72) (lv' := [(2, .int w11), (0, .ref (ah a 0)), (1, .int a1), (3, .int x3)]) hx hb dX0_thereOf_72 rfl hl (by decide) rfl (fun ls hl => ?_)
              obtain ⟨w12, ew12, hd⟩ := bs_let_spec hd
              refine lv_iinc (pc := 73) (v := w12) (lv' := [(3, .int w12), (2, .int w11), (0, .ref (ah a 0)), (1, .int a1)]) hx hb dX0_thereOf_73 hl (k := 3) rfl (by rw [ew12]; rfl) (by decide) rfl (fun ls hl => ?_)
              refine lv_goto (pc := 76) (tgt := 4) hx hb dX0_thereOf_76 (by decide) ?_
              exact ih4 w11 w12 _ (lv_sub hl [2, 3, 1, 0] rfl) hd
            · have hd := if_n (fun h9 => c10 ((xo_r hH (Nat.add_lt_add_left (bs_ix_lt hv9) 6)).trans h9)) hd
              exact h46 x3 y0 _ (lv_sub hl [0, 1, 2] rfl) hd
      intro x2 x3 ls hl hd
      rw [X_thereOf_L4] at hd
      refine lv_iload_n (pc := 4) hx hb dX0_thereOf_4 rfl (lv_at hl 3 rfl) ?_
      refine lv_bipush (v := (6 : Int32)) (pc := 5) hx hb dX0_thereOf_5 (by decide) ?_
      refine lv_icmp_ge (pc := 7) (tgt := 79) hx hb dX0_thereOf_7 (by decide) (fun c1 => ?_) (fun c1 => ?_)
      · have hd := if_t c1 hd
        refine lv_iload_n (pc := 79) hx hb dX0_thereOf_79 rfl (lv_at hl 2 rfl) ?_
        exact r_iret hd S hr hlk dX0_thereOf_80
      · have hd := if_n c1 hd
        refine lv_iload_n (pc := 10) hx hb dX0_thereOf_10 rfl (lv_at hl 2 rfl) ?_
        refine lv_iload_n (pc := 11) hx hb dX0_thereOf_11 rfl (lv_at hl 1 rfl) ?_
        refine lv_bipush (v := (8 : Int32)) (pc := 12) hx hb dX0_thereOf_12 (by decide) ?_
        refine lv_icmp_ne (pc := 14) (tgt := 26) hx hb dX0_thereOf_14 (by decide) (fun c2 => ?_) (fun c2 => ?_)
        · have hd := if_n c2 hd
          exact h26 x3 x2 _ (lv_sub hl [0, 1, 3] rfl) hd
        · have hd := if_t c2 hd
          refine lv_aload_n (pc := 17) hx hb dX0_thereOf_17 rfl (lv_at hl 0 rfl) ?_
          refine xg_rows (pc := 18) S hK hH dX0_thereOf_18 ?_
          refine lv_iload_n (pc := 21) hx hb dX0_thereOf_21 rfl (lv_at hl 3 rfl) ?_
          obtain ⟨v3, hv3, hd⟩ := bs_bd hd
          refine xq_rows (pc := 22) S hK hH hv3 dX0_thereOf_22 ?_
          refine lv_ifnonnullO (pc := 23) (tgt := 66) hx hb dX0_thereOf_23 (by decide) (fun c4 => ?_) (fun c4 => ?_)
          · have hd := if_t ((xo_r hH (Nat.lt_of_lt_of_le (bs_ix_lt hv3) (by decide))).symm.trans c4) hd
            refine lv_iconst (v := (1 : Int32)) (pc := 66) hx hb dX0_thereOf_66 (by decide) ?_
            refine lv_goto (pc := 67) (tgt := 71) hx hb dX0_thereOf_67 (by decide) ?_
            refine lv_iadd (pc := 71) hx hb dX0_thereOf_71 ?_
            obtain ⟨w5, ew5, hd⟩ := bs_let_spec hd
            refine lv_topE (pc := 72) ew5 ?_
            refine lv_istore_n (pc := 72) (lv' := [(2, .int w5), (0, .ref (ah a 0)), (1, .int a1), (3, .int x3)]) hx hb dX0_thereOf_72 rfl hl (by decide) rfl (fun ls hl => ?_)
            obtain ⟨w6, ew6, hd⟩ := bs_let_spec hd
            refine lv_iinc (pc := 73) (v := w6) (lv' := [(3, .int w6), (2, .int w5), (0, .ref (ah a 0)), (1, .int a1)]) hx hb dX0_thereOf_73 hl (k := 3) rfl (by rw [ew6]; rfl) (by decide) rfl (fun ls hl => ?_)
            refine lv_goto (pc := 76) (tgt := 4) hx hb dX0_thereOf_76 (by decide) ?_
            exact ih4 w5 w6 _ (lv_sub hl [2, 3, 1, 0] rfl) hd
          · have hd := if_n (fun h9 => c4 ((xo_r hH (Nat.lt_of_lt_of_le (bs_ix_lt hv3) (by decide))).trans h9)) hd
            exact h26 x3 x2 _ (lv_sub hl [0, 1, 3] rfl) hd
  unfold X_thereOf at hd
  refine lv_iconst (v := (0 : Int32)) (pc := 0) hx hb dX0_thereOf_0 (by decide) ?_
  refine lv_istore_n (pc := 1) (lv' := [(2, .int (0 : Int32)), (0, .ref (ah a 0)), (1, .int a1)]) hx hb dX0_thereOf_1 rfl hl (by decide) rfl (fun ls hl => ?_)
  refine lv_iconst (v := (0 : Int32)) (pc := 2) hx hb dX0_thereOf_2 (by decide) ?_
  refine lv_istore_n (pc := 3) (lv' := [(3, .int (0 : Int32)), (2, .int (0 : Int32)), (0, .ref (ah a 0)), (1, .int a1)]) hx hb dX0_thereOf_3 rfl hl (by decide) rfl (fun ls hl => ?_)
  exact h4 bs_fu (0 : Int32) (0 : Int32) _ (lv_sub hl [2, 3, 1, 0] rfl) hd
section CR_X_thereOf
variable {p : Program} {l : Launch} {e : Env} {R : Room} {s : State} {m : MethodId} {args : Array Value} {below : List Frame} {meth : Method} {c : Code} {H : Heap} {locs : List Loc} {cells slots : Nat} {Q : State → Prop}
variable {cc : ByteArray} {pc nL idx : Nat} {ls : Array Slot} {rest : List Value} {lv : List (Nat × Value)} {A : Nat → Prop} {H0 : Heap} {own : String}
theorem call_X_thereOf {D : va_G} {ct : Nat → ClassId} {a : XA} {ρ : Option Nat} {st : XS} {a1 : Int32} {z : Int32} (S : CallFix p m c cc nL s args lw_all own) (hl : lv_has ls nL lv) (hE : gEX s) (hK : va_K D clA (tysG ct) s) (hH : GH D A (xAs a) H0 (WX ct a ρ st) H locs) (hlk : Cond.methodLink own idx yX0_thereOf ∈ lw_all) (hv : X_thereOf st a1 = some z) (hR : 1 ≤ R.frames ∧ 23 ≤ R.locals) (hsum : (rest.map fun v => v.category).sum ≤ 8) (hdg : decode cc pc = .ok (.invokevirtual idx, 3)) (hf : cells ≤ R.cells ∧ slots ≤ R.slots)
    (k : W p l e R s m args below meth c H locs cells slots Q (F0 m (pc + 3) ls (.int z :: rest))) : W p l e R s m args below meth c H locs cells slots Q (F0 m pc ls (.int a1 :: .ref (ah a 0) :: rest)) :=
  r_calli (av := [.int a1]) S hl gEX_ok hE hK hH (met_X_thereOf l D ct a ρ H.size st a1 z hv) (lw_V hlk q883 qs33 q69 q884) rfl rfl ⟨rfl, by decide, by decide, by show (parseMethodDescriptor yX0_thereOf.desc).map (fun d => d.parameters.length) = some 1; decide +kernel⟩ hR (x_recv hK hH) rfl hsum hdg hf k
end CR_X_thereOf
/-! CapCouncil.countOf (I)I -/
def X_countOf (st : XS) (a1 : Int32) : Option Int32 :=
  if a1 = (0 : Int32) then
    (some (xi st 2))
  else
  if a1 = (1 : Int32) then
    (some (xi st 3))
  else
  if a1 = (2 : Int32) then
    (some (xi st 9))
  else
  if a1 = (3 : Int32) then
    (some (xi st 7))
  else
  if a1 = (4 : Int32) then
    (some (xi st 8))
  else
  if a1 = (5 : Int32) then
    ((X_seated st).bind fun v7 =>
    some v7)
  else
  if a1 = (6 : Int32) then
    ((X_decideAll st).bind fun v9 =>
    some v9)
  else
  if a1 = (7 : Int32) then
    ((X_olds st).bind fun v11 =>
    some v11)
  else
    ((X_thereOf st a1).bind fun v12 =>
    some v12)
def rm_X_countOf : Room := { frames := 8, cells := 0, slots := 0, locals := 212 }
set_option maxHeartbeats 4000000 in
set_option maxRecDepth 100000 in
theorem met_X_countOf (l : Launch) (D : va_G) (ct : Nat → ClassId) (a : XA) (ρ : Option Nat) (sz : Nat) (st : XS) (a1 : Int32) (z : Int32) (hd : X_countOf st a1 = some z) : Met l yX0_countOf (ws_ yX0_countOf cX0_countOf 2 (some .int)) rm_X_countOf (GPre gEX D ct (xAs a) (WX ct a ρ st) sz [.ref (ah a 0), .int a1]) (vp_Si (fun r => r = z)) 0 0 (fun _ => False) := by
  refine g_met (cc := cX0_countOf) (maxL := 2) (ret := (some .int)) (by decide) (Nat.le_of_ble_eq_true rfl) ?_
  intro p e U m args below meth c ls S hr hlk hK hH hE hsz hl
  have S : CallFix p m c cX0_countOf 2 U args lw_all RX0 := S
  have hx := S.1
  have hb := S.2.1
  have hl : lv_has ls 2 [(0, .ref (ah a 0)), (1, .int a1)] := hl
  unfold X_countOf at hd
  refine lv_iload_n (pc := 0) hx hb dX0_countOf_0 rfl (lv_at hl 1 rfl) ?_
  by_cases c1 : a1 = (0 : Int32)
  · have hd := if_t c1 hd
    refine lv_tabE (pc := 1) (off := 47) (tgt := 48) hx hb dX0_countOf_1 c1 (by decide) (by decide) rfl (by decide) ?_
    refine lv_aload_n (pc := 48) hx hb dX0_countOf_48 rfl (lv_at hl 0 rfl) ?_
    refine xg_ringMany (pc := 49) S hK hH dX0_countOf_49 ?_
    exact r_iret hd S hr hlk dX0_countOf_52
  have hd := if_n c1 hd
  by_cases c2 : a1 = (1 : Int32)
  · have hd := if_t c2 hd
    refine lv_tabE (pc := 1) (off := 52) (tgt := 53) hx hb dX0_countOf_1 c2 (by decide) (by decide) rfl (by decide) ?_
    refine lv_aload_n (pc := 53) hx hb dX0_countOf_53 rfl (lv_at hl 0 rfl) ?_
    refine xg_bedMany (pc := 54) S hK hH dX0_countOf_54 ?_
    exact r_iret hd S hr hlk dX0_countOf_57
  have hd := if_n c2 hd
  by_cases c3 : a1 = (2 : Int32)
  · have hd := if_t c3 hd
    refine lv_tabE (pc := 1) (off := 57) (tgt := 58) hx hb dX0_countOf_1 c3 (by decide) (by decide) rfl (by decide) ?_
    refine lv_aload_n (pc := 58) hx hb dX0_countOf_58 rfl (lv_at hl 0 rfl) ?_
    refine xg_deedMany (pc := 59) S hK hH dX0_countOf_59 ?_
    exact r_iret hd S hr hlk dX0_countOf_62
  have hd := if_n c3 hd
  by_cases c4 : a1 = (3 : Int32)
  · have hd := if_t c4 hd
    refine lv_tabE (pc := 1) (off := 62) (tgt := 63) hx hb dX0_countOf_1 c4 (by decide) (by decide) rfl (by decide) ?_
    refine lv_aload_n (pc := 63) hx hb dX0_countOf_63 rfl (lv_at hl 0 rfl) ?_
    refine xg_yearNow (pc := 64) S hK hH dX0_countOf_64 ?_
    exact r_iret hd S hr hlk dX0_countOf_67
  have hd := if_n c4 hd
  by_cases c5 : a1 = (4 : Int32)
  · have hd := if_t c5 hd
    refine lv_tabE (pc := 1) (off := 67) (tgt := 68) hx hb dX0_countOf_1 c5 (by decide) (by decide) rfl (by decide) ?_
    refine lv_aload_n (pc := 68) hx hb dX0_countOf_68 rfl (lv_at hl 0 rfl) ?_
    refine xg_up (pc := 69) S hK hH dX0_countOf_69 ?_
    exact r_iret hd S hr hlk dX0_countOf_72
  have hd := if_n c5 hd
  by_cases c6 : a1 = (5 : Int32)
  · have hd := if_t c6 hd
    refine lv_tabE (pc := 1) (off := 72) (tgt := 73) hx hb dX0_countOf_1 c6 (by decide) (by decide) rfl (by decide) ?_
    refine lv_aload_n (pc := 73) hx hb dX0_countOf_73 rfl (lv_at hl 0 rfl) ?_
    obtain ⟨v7, hv7, hd⟩ := bs_bd hd
    refine call_X_seated (pc := 74) S hl hE hK hH q665 hv7 ⟨Nat.le_of_ble_eq_true rfl, Nat.le_of_ble_eq_true rfl⟩ (Nat.le_of_ble_eq_true rfl) dX0_countOf_74 ⟨Nat.zero_le _, Nat.zero_le _⟩ ?_
    exact r_iret hd S hr hlk dX0_countOf_77
  have hd := if_n c6 hd
  by_cases c8 : a1 = (6 : Int32)
  · have hd := if_t c8 hd
    refine lv_tabE (pc := 1) (off := 77) (tgt := 78) hx hb dX0_countOf_1 c8 (by decide) (by decide) rfl (by decide) ?_
    refine lv_aload_n (pc := 78) hx hb dX0_countOf_78 rfl (lv_at hl 0 rfl) ?_
    obtain ⟨v9, hv9, hd⟩ := bs_bd hd
    refine call_X_decideAll (pc := 79) S hl hE hK hH q763 hv9 ⟨Nat.le_of_ble_eq_true rfl, Nat.le_of_ble_eq_true rfl⟩ (Nat.le_of_ble_eq_true rfl) dX0_countOf_79 ⟨Nat.zero_le _, Nat.zero_le _⟩ ?_
    exact r_iret hd S hr hlk dX0_countOf_82
  have hd := if_n c8 hd
  by_cases c10 : a1 = (7 : Int32)
  · have hd := if_t c10 hd
    refine lv_tabE (pc := 1) (off := 82) (tgt := 83) hx hb dX0_countOf_1 c10 (by decide) (by decide) rfl (by decide) ?_
    refine lv_aload_n (pc := 83) hx hb dX0_countOf_83 rfl (lv_at hl 0 rfl) ?_
    obtain ⟨v11, hv11, hd⟩ := bs_bd hd
    refine call_X_olds (pc := 84) S hl hE hK hH q852 hv11 ⟨Nat.le_of_ble_eq_true rfl, Nat.le_of_ble_eq_true rfl⟩ (Nat.le_of_ble_eq_true rfl) dX0_countOf_84 ⟨Nat.zero_le _, Nat.zero_le _⟩ ?_
    exact r_iret hd S hr hlk dX0_countOf_87
  have hd := if_n c10 hd
  refine lv_tableOut (pc := 1) (tgt := 88) hx hb dX0_countOf_1 (by have zc1 := lv_neT c1 (a := 0) (by decide); have zc2 := lv_neT c2 (a := 1) (by decide); have zc3 := lv_neT c3 (a := 2) (by decide); have zc4 := lv_neT c4 (a := 3) (by decide); have zc5 := lv_neT c5 (a := 4) (by decide); have zc6 := lv_neT c6 (a := 5) (by decide); have zc8 := lv_neT c8 (a := 6) (by decide); have zc10 := lv_neT c10 (a := 7) (by decide); omega) (by decide) ?_
  refine lv_aload_n (pc := 88) hx hb dX0_countOf_88 rfl (lv_at hl 0 rfl) ?_
  refine lv_iload_n (pc := 89) hx hb dX0_countOf_89 rfl (lv_at hl 1 rfl) ?_
  obtain ⟨v12, hv12, hd⟩ := bs_bd hd
  refine call_X_thereOf (pc := 90) S hl hE hK hH q881 hv12 ⟨Nat.le_of_ble_eq_true rfl, Nat.le_of_ble_eq_true rfl⟩ (Nat.le_of_ble_eq_true rfl) dX0_countOf_90 ⟨Nat.zero_le _, Nat.zero_le _⟩ ?_
  exact r_iret hd S hr hlk dX0_countOf_93
section CR_X_countOf
variable {p : Program} {l : Launch} {e : Env} {R : Room} {s : State} {m : MethodId} {args : Array Value} {below : List Frame} {meth : Method} {c : Code} {H : Heap} {locs : List Loc} {cells slots : Nat} {Q : State → Prop}
variable {cc : ByteArray} {pc nL idx : Nat} {ls : Array Slot} {rest : List Value} {lv : List (Nat × Value)} {A : Nat → Prop} {H0 : Heap} {own : String}
theorem call_X_countOf {D : va_G} {ct : Nat → ClassId} {a : XA} {ρ : Option Nat} {st : XS} {a1 : Int32} {z : Int32} (S : CallFix p m c cc nL s args lw_all own) (hl : lv_has ls nL lv) (hE : gEX s) (hK : va_K D clA (tysG ct) s) (hH : GH D A (xAs a) H0 (WX ct a ρ st) H locs) (hlk : Cond.methodLink own idx yX0_countOf ∈ lw_all) (hv : X_countOf st a1 = some z) (hR : 9 ≤ R.frames ∧ 233 ≤ R.locals) (hsum : (rest.map fun v => v.category).sum ≤ 8) (hdg : decode cc pc = .ok (.invokevirtual idx, 3)) (hf : cells ≤ R.cells ∧ slots ≤ R.slots)
    (k : W p l e R s m args below meth c H locs cells slots Q (F0 m (pc + 3) ls (.int z :: rest))) : W p l e R s m args below meth c H locs cells slots Q (F0 m pc ls (.int a1 :: .ref (ah a 0) :: rest)) :=
  r_calli (av := [.int a1]) S hl gEX_ok hE hK hH (met_X_countOf l D ct a ρ H.size st a1 z hv) (lw_V hlk q850 qs31 q69 q851) rfl rfl ⟨rfl, by decide, by decide, by show (parseMethodDescriptor yX0_countOf.desc).map (fun d => d.parameters.length) = some 1; decide +kernel⟩ hR (x_recv hK hH) rfl hsum hdg hf k
end CR_X_countOf
/-! CapCouncil.count (I)I -/
def X_count (st : XS) (a1 : Int32) : Option Int32 :=
  (X_isIn a1 (0 : Int32) (10 : Int32)).bind fun v1 =>
  if v1 = 0 then
    (some (-1 : Int32))
  else
    ((X_countOf st a1).bind fun v3 =>
    some v3)
def rm_X_count : Room := { frames := 9, cells := 0, slots := 0, locals := 233 }
set_option maxHeartbeats 4000000 in
set_option maxRecDepth 100000 in
theorem met_X_count (l : Launch) (D : va_G) (ct : Nat → ClassId) (a : XA) (ρ : Option Nat) (sz : Nat) (st : XS) (a1 : Int32) (z : Int32) (hd : X_count st a1 = some z) : Met l yX0_count (ws_ yX0_count cX0_count 2 (some .int)) rm_X_count (GPre gEX D ct (xAs a) (WX ct a ρ st) sz [.ref (ah a 0), .int a1]) (vp_Si (fun r => r = z)) 0 0 (fun _ => False) := by
  refine g_met (cc := cX0_count) (maxL := 2) (ret := (some .int)) (by decide) (Nat.le_of_ble_eq_true rfl) ?_
  intro p e U m args below meth c ls S hr hlk hK hH hE hsz hl
  have S : CallFix p m c cX0_count 2 U args lw_all RX0 := S
  have hx := S.1
  have hb := S.2.1
  have hl : lv_has ls 2 [(0, .ref (ah a 0)), (1, .int a1)] := hl
  unfold X_count at hd
  refine lv_iload_n (pc := 0) hx hb dX0_count_0 rfl (lv_at hl 1 rfl) ?_
  refine lv_iconst (v := (0 : Int32)) (pc := 1) hx hb dX0_count_1 (by decide) ?_
  refine lv_bipush (v := (10 : Int32)) (pc := 2) hx hb dX0_count_2 (by decide) ?_
  obtain ⟨v1, hv1, hd⟩ := bs_bd hd
  refine call_X_isIn (pc := 4) S hl q285 hv1 ⟨Nat.le_of_ble_eq_true rfl, Nat.le_of_ble_eq_true rfl⟩ (Nat.le_of_ble_eq_true rfl) dX0_count_4 ⟨Nat.zero_le _, Nat.zero_le _⟩ ?_
  refine lv_if_eq (pc := 7) (tgt := 18) hx hb dX0_count_7 (by decide) (fun c2 => ?_) (fun c2 => ?_)
  · have hd := if_t c2 hd
    refine lv_iconst (v := (-1 : Int32)) (pc := 18) hx hb dX0_count_18 (by decide) ?_
    exact r_iret hd S hr hlk dX0_count_19
  · have hd := if_n c2 hd
    refine lv_aload_n (pc := 10) hx hb dX0_count_10 rfl (lv_at hl 0 rfl) ?_
    refine lv_iload_n (pc := 11) hx hb dX0_count_11 rfl (lv_at hl 1 rfl) ?_
    obtain ⟨v3, hv3, hd⟩ := bs_bd hd
    refine call_X_countOf (pc := 12) S hl hE hK hH q848 hv3 ⟨Nat.le_of_ble_eq_true rfl, Nat.le_of_ble_eq_true rfl⟩ (Nat.le_of_ble_eq_true rfl) dX0_count_12 ⟨Nat.zero_le _, Nat.zero_le _⟩ ?_
    refine lv_goto (pc := 15) (tgt := 19) hx hb dX0_count_15 (by decide) ?_
    exact r_iret hd S hr hlk dX0_count_19
section CR_X_count
variable {p : Program} {l : Launch} {e : Env} {R : Room} {s : State} {m : MethodId} {args : Array Value} {below : List Frame} {meth : Method} {c : Code} {H : Heap} {locs : List Loc} {cells slots : Nat} {Q : State → Prop}
variable {cc : ByteArray} {pc nL idx : Nat} {ls : Array Slot} {rest : List Value} {lv : List (Nat × Value)} {A : Nat → Prop} {H0 : Heap} {own : String}
theorem call_X_count {D : va_G} {ct : Nat → ClassId} {a : XA} {ρ : Option Nat} {st : XS} {a1 : Int32} {z : Int32} (S : CallFix p m c cc nL s args lw_all own) (hl : lv_has ls nL lv) (hE : gEX s) (hK : va_K D clA (tysG ct) s) (hH : GH D A (xAs a) H0 (WX ct a ρ st) H locs) (hlk : Cond.methodLink own idx yX0_count ∈ lw_all) (hv : X_count st a1 = some z) (hR : 10 ≤ R.frames ∧ 254 ≤ R.locals) (hsum : (rest.map fun v => v.category).sum ≤ 8) (hdg : decode cc pc = .ok (.invokevirtual idx, 3)) (hf : cells ≤ R.cells ∧ slots ≤ R.slots)
    (k : W p l e R s m args below meth c H locs cells slots Q (F0 m (pc + 3) ls (.int z :: rest))) : W p l e R s m args below meth c H locs cells slots Q (F0 m pc ls (.int a1 :: .ref (ah a 0) :: rest)) :=
  r_calli (av := [.int a1]) S hl gEX_ok hE hK hH (met_X_count l D ct a ρ H.size st a1 z hv) (lw_V hlk q845 q846 q69 q847) rfl rfl ⟨rfl, by decide, by decide, by show (parseMethodDescriptor yX0_count.desc).map (fun d => d.parameters.length) = some 1; decide +kernel⟩ hR (x_recv hK hH) rfl hsum hdg hf k
end CR_X_count
/-! CapCouncil.finding ()I -/
def X_finding (st : XS) : Option Int32 :=
  some (xi st 0)
def rm_X_finding : Room := { frames := 0, cells := 0, slots := 0, locals := 0 }
set_option maxHeartbeats 4000000 in
set_option maxRecDepth 100000 in
theorem met_X_finding (l : Launch) (D : va_G) (ct : Nat → ClassId) (a : XA) (ρ : Option Nat) (sz : Nat) (st : XS) (z : Int32) (hd : X_finding st = some z) : Met l yX0_finding (ws_ yX0_finding cX0_finding 1 (some .int)) rm_X_finding (GPre gEX D ct (xAs a) (WX ct a ρ st) sz [.ref (ah a 0)]) (vp_Si (fun r => r = z)) 0 0 (fun _ => False) := by
  refine g_met (cc := cX0_finding) (maxL := 1) (ret := (some .int)) (by decide) (Nat.le_of_ble_eq_true rfl) ?_
  intro p e U m args below meth c ls S hr hlk hK hH hE hsz hl
  have S : CallFix p m c cX0_finding 1 U args lw_all RX0 := S
  have hx := S.1
  have hb := S.2.1
  have hl : lv_has ls 1 [(0, .ref (ah a 0))] := hl
  unfold X_finding at hd
  refine lv_aload_n (pc := 0) hx hb dX0_finding_0 rfl (lv_at hl 0 rfl) ?_
  refine xg_finding (pc := 1) S hK hH dX0_finding_1 ?_
  exact r_iret hd S hr hlk dX0_finding_4
section CR_X_finding
variable {p : Program} {l : Launch} {e : Env} {R : Room} {s : State} {m : MethodId} {args : Array Value} {below : List Frame} {meth : Method} {c : Code} {H : Heap} {locs : List Loc} {cells slots : Nat} {Q : State → Prop}
variable {cc : ByteArray} {pc nL idx : Nat} {ls : Array Slot} {rest : List Value} {lv : List (Nat × Value)} {A : Nat → Prop} {H0 : Heap} {own : String}
theorem call_X_finding {D : va_G} {ct : Nat → ClassId} {a : XA} {ρ : Option Nat} {st : XS} {z : Int32} (S : CallFix p m c cc nL s args lw_all own) (hl : lv_has ls nL lv) (hE : gEX s) (hK : va_K D clA (tysG ct) s) (hH : GH D A (xAs a) H0 (WX ct a ρ st) H locs) (hlk : Cond.methodLink own idx yX0_finding ∈ lw_all) (hv : X_finding st = some z) (hR : 1 ≤ R.frames ∧ 20 ≤ R.locals) (hsum : (rest.map fun v => v.category).sum ≤ 8) (hdg : decode cc pc = .ok (.invokevirtual idx, 3)) (hf : cells ≤ R.cells ∧ slots ≤ R.slots)
    (k : W p l e R s m args below meth c H locs cells slots Q (F0 m (pc + 3) ls (.int z :: rest))) : W p l e R s m args below meth c H locs cells slots Q (F0 m pc ls (.ref (ah a 0) :: rest)) :=
  r_calli (av := []) S hl gEX_ok hE hK hH (met_X_finding l D ct a ρ H.size st z hv) (lw_V hlk q886 q887 q69 q888) rfl rfl ⟨rfl, by decide, by decide, by show (parseMethodDescriptor yX0_finding.desc).map (fun d => d.parameters.length) = some 0; decide +kernel⟩ hR (x_recv hK hH) rfl hsum hdg hf k
end CR_X_finding
/-! CapCouncil.findings (I)I -/
def X_findings (st : XS) (a1 : Int32) : Option Int32 :=
  (X_isIn a1 (1 : Int32) (5 : Int32)).bind fun v1 =>
  if v1 = 0 then
    (some (-1 : Int32))
  else
    ((bs_ld (xa st 0) 6 a1).bind fun v3 =>
    some v3)
def rm_X_findings : Room := { frames := 1, cells := 0, slots := 0, locals := 22 }
set_option maxHeartbeats 4000000 in
set_option maxRecDepth 100000 in
theorem met_X_findings (l : Launch) (D : va_G) (ct : Nat → ClassId) (a : XA) (ρ : Option Nat) (sz : Nat) (st : XS) (a1 : Int32) (z : Int32) (hd : X_findings st a1 = some z) : Met l yX0_findings (ws_ yX0_findings cX0_findings 2 (some .int)) rm_X_findings (GPre gEX D ct (xAs a) (WX ct a ρ st) sz [.ref (ah a 0), .int a1]) (vp_Si (fun r => r = z)) 0 0 (fun _ => False) := by
  refine g_met (cc := cX0_findings) (maxL := 2) (ret := (some .int)) (by decide) (Nat.le_of_ble_eq_true rfl) ?_
  intro p e U m args below meth c ls S hr hlk hK hH hE hsz hl
  have S : CallFix p m c cX0_findings 2 U args lw_all RX0 := S
  have hx := S.1
  have hb := S.2.1
  have hl : lv_has ls 2 [(0, .ref (ah a 0)), (1, .int a1)] := hl
  unfold X_findings at hd
  refine lv_iload_n (pc := 0) hx hb dX0_findings_0 rfl (lv_at hl 1 rfl) ?_
  refine lv_iconst (v := (1 : Int32)) (pc := 1) hx hb dX0_findings_1 (by decide) ?_
  refine lv_iconst (v := (5 : Int32)) (pc := 2) hx hb dX0_findings_2 (by decide) ?_
  obtain ⟨v1, hv1, hd⟩ := bs_bd hd
  refine call_X_isIn (pc := 3) S hl q285 hv1 ⟨Nat.le_of_ble_eq_true rfl, Nat.le_of_ble_eq_true rfl⟩ (Nat.le_of_ble_eq_true rfl) dX0_findings_3 ⟨Nat.zero_le _, Nat.zero_le _⟩ ?_
  refine lv_if_eq (pc := 6) (tgt := 18) hx hb dX0_findings_6 (by decide) (fun c2 => ?_) (fun c2 => ?_)
  · have hd := if_t c2 hd
    refine lv_iconst (v := (-1 : Int32)) (pc := 18) hx hb dX0_findings_18 (by decide) ?_
    exact r_iret hd S hr hlk dX0_findings_19
  · have hd := if_n c2 hd
    refine lv_aload_n (pc := 9) hx hb dX0_findings_9 rfl (lv_at hl 0 rfl) ?_
    refine xg_findings (pc := 10) S hK hH dX0_findings_10 ?_
    refine lv_iload_n (pc := 13) hx hb dX0_findings_13 rfl (lv_at hl 1 rfl) ?_
    obtain ⟨v3, hv3, hd⟩ := bs_bd hd
    refine xl_findings (pc := 14) S hK hH hv3 dX0_findings_14 ?_
    refine lv_goto (pc := 15) (tgt := 19) hx hb dX0_findings_15 (by decide) ?_
    exact r_iret hd S hr hlk dX0_findings_19
section CR_X_findings
variable {p : Program} {l : Launch} {e : Env} {R : Room} {s : State} {m : MethodId} {args : Array Value} {below : List Frame} {meth : Method} {c : Code} {H : Heap} {locs : List Loc} {cells slots : Nat} {Q : State → Prop}
variable {cc : ByteArray} {pc nL idx : Nat} {ls : Array Slot} {rest : List Value} {lv : List (Nat × Value)} {A : Nat → Prop} {H0 : Heap} {own : String}
theorem call_X_findings {D : va_G} {ct : Nat → ClassId} {a : XA} {ρ : Option Nat} {st : XS} {a1 : Int32} {z : Int32} (S : CallFix p m c cc nL s args lw_all own) (hl : lv_has ls nL lv) (hE : gEX s) (hK : va_K D clA (tysG ct) s) (hH : GH D A (xAs a) H0 (WX ct a ρ st) H locs) (hlk : Cond.methodLink own idx yX0_findings ∈ lw_all) (hv : X_findings st a1 = some z) (hR : 2 ≤ R.frames ∧ 43 ≤ R.locals) (hsum : (rest.map fun v => v.category).sum ≤ 8) (hdg : decode cc pc = .ok (.invokevirtual idx, 3)) (hf : cells ≤ R.cells ∧ slots ≤ R.slots)
    (k : W p l e R s m args below meth c H locs cells slots Q (F0 m (pc + 3) ls (.int z :: rest))) : W p l e R s m args below meth c H locs cells slots Q (F0 m pc ls (.int a1 :: .ref (ah a 0) :: rest)) :=
  r_calli (av := [.int a1]) S hl gEX_ok hE hK hH (met_X_findings l D ct a ρ H.size st a1 z hv) (lw_V hlk q890 q891 q69 q892) rfl rfl ⟨rfl, by decide, by decide, by show (parseMethodDescriptor yX0_findings.desc).map (fun d => d.parameters.length) = some 1; decide +kernel⟩ hR (x_recv hK hH) rfl hsum hdg hf k
end CR_X_findings
/-! CapCouncil.mix (I)V -/
def X_mix (st : XS) (a1 : Int32) : Option XS :=
  bs_let (((31 : Int64) * (xl st 2)) + (a1.toInt64)) fun w1 =>
  bs_let (sxl st 2 w1) fun s2 =>
  some s2
def rm_X_mix : Room := { frames := 0, cells := 0, slots := 0, locals := 0 }
set_option maxHeartbeats 4000000 in
set_option maxRecDepth 100000 in
theorem met_X_mix (l : Launch) (D : va_G) (ct : Nat → ClassId) (a : XA) (ρ : Option Nat) (sz : Nat) (st : XS) (a1 : Int32) (z : XS) (hd : X_mix st a1 = some z) : Met l yX0_mix (ws_ yX0_mix cX0_mix 2 none) rm_X_mix (GPre gEX D ct (xAs a) (WX ct a ρ st) sz [.ref (ah a 0), .int a1]) (GQv D (xAs a) (xAs a) (WX ct a ρ z) sz) 0 0 (gA (xAs a) sz) := by
  refine g_met (cc := cX0_mix) (maxL := 2) (ret := none) (by decide) (Nat.le_of_ble_eq_true rfl) ?_
  intro p e U m args below meth c ls S hr hlk hK hH hE hsz hl
  have S : CallFix p m c cX0_mix 2 U args lw_all RX0 := S
  have hx := S.1
  have hb := S.2.1
  have hl : lv_has ls 2 [(0, .ref (ah a 0)), (1, .int a1)] := hl
  unfold X_mix at hd
  refine lv_aload_n (pc := 0) hx hb dX0_mix_0 rfl (lv_at hl 0 rfl) ?_
  refine lv_ldc2 (pc := 1) (own := RX0) (v := (31 : Int64)) hx hb S.2.2.2.1 (S.2.2.2.2 _ q902) dX0_mix_1 ?_
  refine lv_aload_n (pc := 4) hx hb dX0_mix_4 rfl (lv_at hl 0 rfl) ?_
  refine xg_h0 (pc := 5) S hK hH dX0_mix_5 ?_
  refine lv_lmul (pc := 8) hx hb dX0_mix_8 ?_
  refine lv_iload_n (pc := 9) hx hb dX0_mix_9 rfl (lv_at hl 1 rfl) ?_
  refine lv_i2l (pc := 10) hx hb dX0_mix_10 rfl ?_
  refine lv_ladd (pc := 11) hx hb dX0_mix_11 ?_
  obtain ⟨w1, ew1, hd⟩ := bs_let_spec hd
  refine lv_topEl (pc := 12) ew1 ?_
  obtain ⟨s2, es2, hd⟩ := bs_let_spec hd
  refine xp_h0 (pc := 12) S hK hH dX0_mix_12 es2 (fun H locs hH => ?_)
  exact g_vret (WX ct a ρ) hd S hr hlk hH dX0_mix_15
section CR_X_mix
variable {p : Program} {l : Launch} {e : Env} {R : Room} {s : State} {m : MethodId} {args : Array Value} {below : List Frame} {meth : Method} {c : Code} {H : Heap} {locs : List Loc} {cells slots : Nat} {Q : State → Prop}
variable {cc : ByteArray} {pc nL idx : Nat} {ls : Array Slot} {rest : List Value} {lv : List (Nat × Value)} {A : Nat → Prop} {H0 : Heap} {own : String}
theorem call_X_mix {D : va_G} {ct : Nat → ClassId} {a : XA} {ρ : Option Nat} {st : XS} {a1 : Int32} {z : XS} (S : CallFix p m c cc nL s args lw_all own) (hl : lv_has ls nL lv) (hE : gEX s) (hK : va_K D clA (tysG ct) s) (hH : GH D A (xAs a) H0 (WX ct a ρ st) H locs) (hlk : Cond.methodLink own idx yX0_mix ∈ lw_all) (hv : X_mix st a1 = some z) (hR : 1 ≤ R.frames ∧ 21 ≤ R.locals) (hsum : (rest.map fun v => v.category).sum ≤ 8) (hdg : decode cc pc = .ok (.invokevirtual idx, 3)) (hf : cells ≤ R.cells ∧ slots ≤ R.slots)
    (k : ∀ (H1 : Heap) (locs1 : List Loc), GH D A (xAs a) H0 (WX ct a ρ z) H1 locs1 → W p l e R s m args below meth c H1 locs1 cells slots Q (F0 m (pc + 3) ls (rest))) : W p l e R s m args below meth c H locs cells slots Q (F0 m pc ls (.int a1 :: .ref (ah a 0) :: rest)) :=
  g_callv (av := [.int a1]) S hl gEX_ok hE hK hH (met_X_mix l D ct a ρ H.size st a1 z hv) (lw_V hlk q900 qs34 q69 q901) rfl rfl ⟨rfl, by decide, by decide, by show (parseMethodDescriptor yX0_mix.desc).map (fun d => d.parameters.length) = some 1; decide +kernel⟩ hR (x_recv hK hH) (fun _ h => Or.inl h) rfl hsum hdg hf k
end CR_X_mix
/-! CapCouncil.mixParish ()V -/
def X_mixParish_L12 (k2 : XS → Int32 → Option XS) : Nat → XS → Int32 → Int32 → Option XS
  | 0, _, _, _ => none
  | n + 1, st, x1, x2 =>
    if (6 : Int32) < x2 then
      (bs_let (x1 + (1 : Int32)) fun w4 =>
      k2 st w4)
    else
      ((X_ringTells st x1 x2).bind fun v5 =>
      (X_mix st v5).bind fun q6 =>
      bs_let (x2 + (1 : Int32)) fun w7 =>
      X_mixParish_L12 k2 n q6 x1 w7)
def X_mixParish_L2 (k42 : XS → Int32 → Option XS) : Nat → XS → Int32 → Option XS
  | 0, _, _ => none
  | n + 1, st, x1 =>
    if (xi st 2) ≤ x1 then
      (k42 st (0 : Int32))
    else
      (X_mixParish_L12 (X_mixParish_L2 k42 n) bs_fu st x1 (0 : Int32))
def X_mixParish_L52 (k42 : XS → Int32 → Option XS) : Nat → XS → Int32 → Int32 → Option XS
  | 0, _, _, _ => none
  | n + 1, st, x1, x2 =>
    if (2 : Int32) < x2 then
      (bs_let (x1 + (1 : Int32)) fun w13 =>
      k42 st w13)
    else
      ((X_bedTells st x1 x2).bind fun v14 =>
      (X_mix st v14).bind fun q15 =>
      bs_let (x2 + (1 : Int32)) fun w16 =>
      X_mixParish_L52 k42 n q15 x1 w16)
def X_mixParish_L42 (k89 : XS → Int32 → Int32 → Option XS) : Nat → XS → Int32 → Option XS
  | 0, _, _ => none
  | n + 1, st, x1 =>
    if (xi st 3) ≤ x1 then
      (k89 st (3 : Int32) (0 : Int32))
    else
      (X_mixParish_L52 (X_mixParish_L42 k89 n) bs_fu st x1 (0 : Int32))
def X_mixParish_J114 (k89 : XS → Int32 → Int32 → Option XS) (st : XS) (x2 : Int32) (x3 : Int32) (y0 : Int32) : Option XS :=
  (X_mix st y0).bind fun q17 =>
  bs_let (x3 + (1 : Int32)) fun w18 =>
  k89 q17 x2 w18
def X_mixParish_L89 : Nat → XS → Int32 → Int32 → Option XS
  | 0, _, _, _ => none
  | n + 1, st, x2, x3 =>
    if x2 ≤ x3 then
      (some st)
    else
      ((bs_ix 3 x3).bind fun v9 =>
      if (xk st v9).isSome = true then
        ((xkd st v9).bind fun v11 =>
        X_mixParish_J114 (X_mixParish_L89 n) st x2 x3 v11)
      else
        (X_mixParish_J114 (X_mixParish_L89 n) st x2 x3 (-1 : Int32)))
def X_mixParish (st : XS) : Option XS :=
  X_mixParish_L2 (X_mixParish_L42 (X_mixParish_L89 bs_fu) bs_fu) bs_fu st (0 : Int32)
def rm_X_mixParish : Room := { frames := 8, cells := 0, slots := 0, locals := 212 }
set_option maxHeartbeats 4000000 in
set_option maxRecDepth 100000 in
theorem met_X_mixParish (l : Launch) (D : va_G) (ct : Nat → ClassId) (a : XA) (ρ : Option Nat) (sz : Nat) (st : XS) (z : XS) (hd : X_mixParish st = some z) : Met l yX0_mixParish (ws_ yX0_mixParish cX0_mixParish 5 none) rm_X_mixParish (GPre gEX D ct (xAs a) (WX ct a ρ st) sz [.ref (ah a 0)]) (GQv D (xAs a) (xAs a) (WX ct a ρ z) sz) 0 0 (gA (xAs a) sz) := by
  refine g_met (cc := cX0_mixParish) (maxL := 5) (ret := none) (by decide) (Nat.le_of_ble_eq_true rfl) ?_
  intro p e U m args below meth c ls S hr hlk hK hH hE hsz hl
  have S : CallFix p m c cX0_mixParish 5 U args lw_all RX0 := S
  have hx := S.1
  have hb := S.2.1
  have hl : lv_has ls 5 [(0, .ref (ah a 0))] := hl
  have h89 : ∀ (n89 : Nat) (st : XS) (x2 : Int32) (x3 : Int32) (H : Heap) (locs : List Loc) (ls : Array Slot), GH D (gA (xAs a) sz) (xAs a) U.heap (WX ct a ρ st) H locs → lv_has ls 5 [(0, .ref (ah a 0)), (1, .ref (ah a 13)), (2, .int x2), (3, .int x3)] → X_mixParish_L89 n89 st x2 x3 = some z → W p l e rm_X_mixParish U m args below meth c H locs 0 0 (MQ below (GQv D (xAs a) (xAs a) (WX ct a ρ z) sz) args U 0 0 (gA (xAs a) sz)) (F0 m 89 ls []) := by
    intro n89
    induction n89 with
    | zero =>
      intro st x2 x3 H locs ls hH hl hd
      rw [X_mixParish_L89] at hd
      cases hd
    | succ n89 ih89 =>
      have h114 : ∀ (st : XS) (x2 : Int32) (x3 : Int32) (y0 : Int32) (H : Heap) (locs : List Loc) (ls : Array Slot), GH D (gA (xAs a) sz) (xAs a) U.heap (WX ct a ρ st) H locs → lv_has ls 5 [(0, .ref (ah a 0)), (1, .ref (ah a 13)), (2, .int x2), (3, .int x3)] → X_mixParish_J114 (X_mixParish_L89 n89) st x2 x3 y0 = some z → W p l e rm_X_mixParish U m args below meth c H locs 0 0 (MQ below (GQv D (xAs a) (xAs a) (WX ct a ρ z) sz) args U 0 0 (gA (xAs a) sz)) (F0 m 114 ls [.int y0, .ref (ah a 0)]) := by
        intro st x2 x3 y0 H locs ls hH hl hd
        unfold X_mixParish_J114 at hd
        obtain ⟨q17, hq17, hd⟩ := bs_bd hd
        refine call_X_mix (pc := 114) S hl hE hK hH q898 hq17 ⟨Nat.le_of_ble_eq_true rfl, Nat.le_of_ble_eq_true rfl⟩ (Nat.le_of_ble_eq_true rfl) dX0_mixParish_114 ⟨Nat.zero_le _, Nat.zero_le _⟩ (fun H locs hH => ?_)
        obtain ⟨w18, ew18, hd⟩ := bs_let_spec hd
        refine lv_iinc (pc := 117) (v := w18) (lv' := [(3, .int w18), (0, .ref (ah a 0)), (1, .ref (ah a 13)), (2, .int x2)]) hx hb dX0_mixParish_117 hl (k := 3) rfl (by rw [ew18]; rfl) (by decide) rfl (fun ls hl => ?_)
        refine lv_goto (pc := 120) (tgt := 89) hx hb dX0_mixParish_120 (by decide) ?_
        exact ih89 q17 x2 w18 _ _ _ hH (lv_sub hl [1, 2, 3, 0] rfl) hd
      intro st x2 x3 H locs ls hH hl hd
      rw [X_mixParish_L89] at hd
      refine lv_iload_n (pc := 89) hx hb dX0_mixParish_89 rfl (lv_at hl 3 rfl) ?_
      refine lv_iload_n (pc := 90) hx hb dX0_mixParish_90 rfl (lv_at hl 2 rfl) ?_
      refine lv_icmp_ge (pc := 91) (tgt := 123) hx hb dX0_mixParish_91 (by decide) (fun c8 => ?_) (fun c8 => ?_)
      · have hd := if_t c8 hd
        exact g_vret (WX ct a ρ) hd S hr hlk hH dX0_mixParish_123
      · have hd := if_n c8 hd
        refine lv_aload_n (pc := 94) hx hb dX0_mixParish_94 rfl (lv_at hl 1 rfl) ?_
        refine lv_iload_n (pc := 95) hx hb dX0_mixParish_95 rfl (lv_at hl 3 rfl) ?_
        obtain ⟨v9, hv9, hd⟩ := bs_bd hd
        refine xq_kept (pc := 96) S hK hH hv9 dX0_mixParish_96 ?_
        refine lv_astoreO (pc := 97) (lv' := [(4, va_rf (ak1 a v9)), (0, .ref (ah a 0)), (1, .ref (ah a 13)), (2, .int x2), (3, .int x3)]) hx hb dX0_mixParish_97 hl (by decide) rfl (fun ls hl => ?_)
        refine lv_aload_n (pc := 99) hx hb dX0_mixParish_99 rfl (lv_at hl 1 rfl) ?_
        refine lv_aloadO (pc := 100) hx hb dX0_mixParish_100 (lv_at hl 0 rfl) ?_
        refine lv_ifnonnullO (pc := 102) (tgt := 109) hx hb dX0_mixParish_102 (by decide) (fun c10 => ?_) (fun c10 => ?_)
        · have hd := if_t ((xo_k hH (bs_ix_lt hv9)).symm.trans c10) hd
          refine lv_aloadO (pc := 109) hx hb dX0_mixParish_109 (lv_at hl 0 rfl) ?_
          obtain ⟨v11, hv11, hd⟩ := bs_bd hd
          refine xk_deed (pc := 111) S hE hK hH (bs_ix_lt hv9) hv11 dX0_mixParish_111 ?_
          exact h114 st x2 x3 v11 _ _ _ hH (lv_sub hl [1, 2, 3, 4] rfl) hd
        · have hd := if_n (fun h9 => c10 ((xo_k hH (bs_ix_lt hv9)).trans h9)) hd
          refine lv_iconst (v := (-1 : Int32)) (pc := 105) hx hb dX0_mixParish_105 (by decide) ?_
          refine lv_goto (pc := 106) (tgt := 114) hx hb dX0_mixParish_106 (by decide) ?_
          exact h114 st x2 x3 (-1 : Int32) _ _ _ hH (lv_sub hl [1, 2, 3, 4] rfl) hd
  have h42 : ∀ (n42 : Nat) (st : XS) (x1 : Int32) (H : Heap) (locs : List Loc) (ls : Array Slot), GH D (gA (xAs a) sz) (xAs a) U.heap (WX ct a ρ st) H locs → lv_has ls 5 [(0, .ref (ah a 0)), (1, .int x1)] → X_mixParish_L42 (X_mixParish_L89 bs_fu) n42 st x1 = some z → W p l e rm_X_mixParish U m args below meth c H locs 0 0 (MQ below (GQv D (xAs a) (xAs a) (WX ct a ρ z) sz) args U 0 0 (gA (xAs a) sz)) (F0 m 42 ls []) := by
    intro n42
    induction n42 with
    | zero =>
      intro st x1 H locs ls hH hl hd
      rw [X_mixParish_L42] at hd
      cases hd
    | succ n42 ih42 =>
      have h52 : ∀ (n52 : Nat) (st : XS) (x1 : Int32) (x2 : Int32) (H : Heap) (locs : List Loc) (ls : Array Slot), GH D (gA (xAs a) sz) (xAs a) U.heap (WX ct a ρ st) H locs → lv_has ls 5 [(0, .ref (ah a 0)), (1, .int x1), (2, .int x2)] → X_mixParish_L52 (X_mixParish_L42 (X_mixParish_L89 bs_fu) n42) n52 st x1 x2 = some z → W p l e rm_X_mixParish U m args below meth c H locs 0 0 (MQ below (GQv D (xAs a) (xAs a) (WX ct a ρ z) sz) args U 0 0 (gA (xAs a) sz)) (F0 m 52 ls []) := by
        intro n52
        induction n52 with
        | zero =>
          intro st x1 x2 H locs ls hH hl hd
          rw [X_mixParish_L52] at hd
          cases hd
        | succ n52 ih52 =>
          intro st x1 x2 H locs ls hH hl hd
          rw [X_mixParish_L52] at hd
          refine lv_iload_n (pc := 52) hx hb dX0_mixParish_52 rfl (lv_at hl 2 rfl) ?_
          refine lv_iconst (v := (2 : Int32)) (pc := 53) hx hb dX0_mixParish_53 (by decide) ?_
          refine lv_icmp_gt (pc := 54) (tgt := 73) hx hb dX0_mixParish_54 (by decide) (fun c12 => ?_) (fun c12 => ?_)
          · have hd := if_t c12 hd
            obtain ⟨w13, ew13, hd⟩ := bs_let_spec hd
            refine lv_iinc (pc := 73) (v := w13) (lv' := [(1, .int w13), (0, .ref (ah a 0)), (2, .int x2)]) hx hb dX0_mixParish_73 hl (k := 1) rfl (by rw [ew13]; rfl) (by decide) rfl (fun ls hl => ?_)
            refine lv_goto (pc := 76) (tgt := 42) hx hb dX0_mixParish_76 (by decide) ?_
            exact ih42 st w13 _ _ _ hH (lv_sub hl [1, 0] rfl) hd
          · have hd := if_n c12 hd
            refine lv_aload_n (pc := 57) hx hb dX0_mixParish_57 rfl (lv_at hl 0 rfl) ?_
            refine lv_aload_n (pc := 58) hx hb dX0_mixParish_58 rfl (lv_at hl 0 rfl) ?_
            refine lv_iload_n (pc := 59) hx hb dX0_mixParish_59 rfl (lv_at hl 1 rfl) ?_
            refine lv_iload_n (pc := 60) hx hb dX0_mixParish_60 rfl (lv_at hl 2 rfl) ?_
            obtain ⟨v14, hv14, hd⟩ := bs_bd hd
            refine call_X_bedTells (pc := 61) S hl hE hK hH q573 hv14 ⟨Nat.le_of_ble_eq_true rfl, Nat.le_of_ble_eq_true rfl⟩ (Nat.le_of_ble_eq_true rfl) dX0_mixParish_61 ⟨Nat.zero_le _, Nat.zero_le _⟩ ?_
            obtain ⟨q15, hq15, hd⟩ := bs_bd hd
            refine call_X_mix (pc := 64) S hl hE hK hH q898 hq15 ⟨Nat.le_of_ble_eq_true rfl, Nat.le_of_ble_eq_true rfl⟩ (Nat.le_of_ble_eq_true rfl) dX0_mixParish_64 ⟨Nat.zero_le _, Nat.zero_le _⟩ (fun H locs hH => ?_)
            obtain ⟨w16, ew16, hd⟩ := bs_let_spec hd
            refine lv_iinc (pc := 67) (v := w16) (lv' := [(2, .int w16), (0, .ref (ah a 0)), (1, .int x1)]) hx hb dX0_mixParish_67 hl (k := 2) rfl (by rw [ew16]; rfl) (by decide) rfl (fun ls hl => ?_)
            refine lv_goto (pc := 70) (tgt := 52) hx hb dX0_mixParish_70 (by decide) ?_
            exact ih52 q15 x1 w16 _ _ _ hH (lv_sub hl [1, 2, 0] rfl) hd
      intro st x1 H locs ls hH hl hd
      rw [X_mixParish_L42] at hd
      refine lv_iload_n (pc := 42) hx hb dX0_mixParish_42 rfl (lv_at hl 1 rfl) ?_
      refine lv_aload_n (pc := 43) hx hb dX0_mixParish_43 rfl (lv_at hl 0 rfl) ?_
      refine xg_bedMany (pc := 44) S hK hH dX0_mixParish_44 ?_
      refine lv_icmp_ge (pc := 47) (tgt := 79) hx hb dX0_mixParish_47 (by decide) (fun c2 => ?_) (fun c2 => ?_)
      · have hd := if_t c2 hd
        refine lv_aload_n (pc := 79) hx hb dX0_mixParish_79 rfl (lv_at hl 0 rfl) ?_
        refine xg_kept (pc := 80) S hK hH dX0_mixParish_80 ?_
        refine lv_astore_n (pc := 83) (lv' := [(1, .ref (ah a 13)), (0, .ref (ah a 0))]) hx hb dX0_mixParish_83 rfl hl (by decide) rfl (fun ls hl => ?_)
        refine lv_aload_n (pc := 84) hx hb dX0_mixParish_84 rfl (lv_at hl 0 rfl) ?_
        refine xn_kept (pc := 85) S hK hH dX0_mixParish_85 ?_
        refine lv_istore_n (pc := 86) (lv' := [(2, .int (3 : Int32)), (1, .ref (ah a 13)), (0, .ref (ah a 0))]) hx hb dX0_mixParish_86 rfl hl (by decide) rfl (fun ls hl => ?_)
        refine lv_iconst (v := (0 : Int32)) (pc := 87) hx hb dX0_mixParish_87 (by decide) ?_
        refine lv_istore_n (pc := 88) (lv' := [(3, .int (0 : Int32)), (2, .int (3 : Int32)), (1, .ref (ah a 13)), (0, .ref (ah a 0))]) hx hb dX0_mixParish_88 rfl hl (by decide) rfl (fun ls hl => ?_)
        exact h89 bs_fu st (3 : Int32) (0 : Int32) _ _ _ hH (lv_sub hl [3, 2, 1, 0] rfl) hd
      · have hd := if_n c2 hd
        refine lv_iconst (v := (0 : Int32)) (pc := 50) hx hb dX0_mixParish_50 (by decide) ?_
        refine lv_istore_n (pc := 51) (lv' := [(2, .int (0 : Int32)), (0, .ref (ah a 0)), (1, .int x1)]) hx hb dX0_mixParish_51 rfl hl (by decide) rfl (fun ls hl => ?_)
        exact h52 bs_fu st x1 (0 : Int32) _ _ _ hH (lv_sub hl [1, 2, 0] rfl) hd
  have h2 : ∀ (n2 : Nat) (st : XS) (x1 : Int32) (H : Heap) (locs : List Loc) (ls : Array Slot), GH D (gA (xAs a) sz) (xAs a) U.heap (WX ct a ρ st) H locs → lv_has ls 5 [(0, .ref (ah a 0)), (1, .int x1)] → X_mixParish_L2 (X_mixParish_L42 (X_mixParish_L89 bs_fu) bs_fu) n2 st x1 = some z → W p l e rm_X_mixParish U m args below meth c H locs 0 0 (MQ below (GQv D (xAs a) (xAs a) (WX ct a ρ z) sz) args U 0 0 (gA (xAs a) sz)) (F0 m 2 ls []) := by
    intro n2
    induction n2 with
    | zero =>
      intro st x1 H locs ls hH hl hd
      rw [X_mixParish_L2] at hd
      cases hd
    | succ n2 ih2 =>
      have h12 : ∀ (n12 : Nat) (st : XS) (x1 : Int32) (x2 : Int32) (H : Heap) (locs : List Loc) (ls : Array Slot), GH D (gA (xAs a) sz) (xAs a) U.heap (WX ct a ρ st) H locs → lv_has ls 5 [(0, .ref (ah a 0)), (1, .int x1), (2, .int x2)] → X_mixParish_L12 (X_mixParish_L2 (X_mixParish_L42 (X_mixParish_L89 bs_fu) bs_fu) n2) n12 st x1 x2 = some z → W p l e rm_X_mixParish U m args below meth c H locs 0 0 (MQ below (GQv D (xAs a) (xAs a) (WX ct a ρ z) sz) args U 0 0 (gA (xAs a) sz)) (F0 m 12 ls []) := by
        intro n12
        induction n12 with
        | zero =>
          intro st x1 x2 H locs ls hH hl hd
          rw [X_mixParish_L12] at hd
          cases hd
        | succ n12 ih12 =>
          intro st x1 x2 H locs ls hH hl hd
          rw [X_mixParish_L12] at hd
          refine lv_iload_n (pc := 12) hx hb dX0_mixParish_12 rfl (lv_at hl 2 rfl) ?_
          refine lv_bipush (v := (6 : Int32)) (pc := 13) hx hb dX0_mixParish_13 (by decide) ?_
          refine lv_icmp_gt (pc := 15) (tgt := 34) hx hb dX0_mixParish_15 (by decide) (fun c3 => ?_) (fun c3 => ?_)
          · have hd := if_t c3 hd
            obtain ⟨w4, ew4, hd⟩ := bs_let_spec hd
            refine lv_iinc (pc := 34) (v := w4) (lv' := [(1, .int w4), (0, .ref (ah a 0)), (2, .int x2)]) hx hb dX0_mixParish_34 hl (k := 1) rfl (by rw [ew4]; rfl) (by decide) rfl (fun ls hl => ?_)
            refine lv_goto (pc := 37) (tgt := 2) hx hb dX0_mixParish_37 (by decide) ?_
            exact ih2 st w4 _ _ _ hH (lv_sub hl [1, 0] rfl) hd
          · have hd := if_n c3 hd
            refine lv_aload_n (pc := 18) hx hb dX0_mixParish_18 rfl (lv_at hl 0 rfl) ?_
            refine lv_aload_n (pc := 19) hx hb dX0_mixParish_19 rfl (lv_at hl 0 rfl) ?_
            refine lv_iload_n (pc := 20) hx hb dX0_mixParish_20 rfl (lv_at hl 1 rfl) ?_
            refine lv_iload_n (pc := 21) hx hb dX0_mixParish_21 rfl (lv_at hl 2 rfl) ?_
            obtain ⟨v5, hv5, hd⟩ := bs_bd hd
            refine call_X_ringTells (pc := 22) S hl hE hK hH q485 hv5 ⟨Nat.le_of_ble_eq_true rfl, Nat.le_of_ble_eq_true rfl⟩ (Nat.le_of_ble_eq_true rfl) dX0_mixParish_22 ⟨Nat.zero_le _, Nat.zero_le _⟩ ?_
            obtain ⟨q6, hq6, hd⟩ := bs_bd hd
            refine call_X_mix (pc := 25) S hl hE hK hH q898 hq6 ⟨Nat.le_of_ble_eq_true rfl, Nat.le_of_ble_eq_true rfl⟩ (Nat.le_of_ble_eq_true rfl) dX0_mixParish_25 ⟨Nat.zero_le _, Nat.zero_le _⟩ (fun H locs hH => ?_)
            obtain ⟨w7, ew7, hd⟩ := bs_let_spec hd
            refine lv_iinc (pc := 28) (v := w7) (lv' := [(2, .int w7), (0, .ref (ah a 0)), (1, .int x1)]) hx hb dX0_mixParish_28 hl (k := 2) rfl (by rw [ew7]; rfl) (by decide) rfl (fun ls hl => ?_)
            refine lv_goto (pc := 31) (tgt := 12) hx hb dX0_mixParish_31 (by decide) ?_
            exact ih12 q6 x1 w7 _ _ _ hH (lv_sub hl [1, 2, 0] rfl) hd
      intro st x1 H locs ls hH hl hd
      rw [X_mixParish_L2] at hd
      refine lv_iload_n (pc := 2) hx hb dX0_mixParish_2 rfl (lv_at hl 1 rfl) ?_
      refine lv_aload_n (pc := 3) hx hb dX0_mixParish_3 rfl (lv_at hl 0 rfl) ?_
      refine xg_ringMany (pc := 4) S hK hH dX0_mixParish_4 ?_
      refine lv_icmp_ge (pc := 7) (tgt := 40) hx hb dX0_mixParish_7 (by decide) (fun c1 => ?_) (fun c1 => ?_)
      · have hd := if_t c1 hd
        refine lv_iconst (v := (0 : Int32)) (pc := 40) hx hb dX0_mixParish_40 (by decide) ?_
        refine lv_istore_n (pc := 41) (lv' := [(1, .int (0 : Int32)), (0, .ref (ah a 0))]) hx hb dX0_mixParish_41 rfl hl (by decide) rfl (fun ls hl => ?_)
        exact h42 bs_fu st (0 : Int32) _ _ _ hH (lv_sub hl [1, 0] rfl) hd
      · have hd := if_n c1 hd
        refine lv_iconst (v := (0 : Int32)) (pc := 10) hx hb dX0_mixParish_10 (by decide) ?_
        refine lv_istore_n (pc := 11) (lv' := [(2, .int (0 : Int32)), (0, .ref (ah a 0)), (1, .int x1)]) hx hb dX0_mixParish_11 rfl hl (by decide) rfl (fun ls hl => ?_)
        exact h12 bs_fu st x1 (0 : Int32) _ _ _ hH (lv_sub hl [1, 2, 0] rfl) hd
  unfold X_mixParish at hd
  refine lv_iconst (v := (0 : Int32)) (pc := 0) hx hb dX0_mixParish_0 (by decide) ?_
  refine lv_istore_n (pc := 1) (lv' := [(1, .int (0 : Int32)), (0, .ref (ah a 0))]) hx hb dX0_mixParish_1 rfl hl (by decide) rfl (fun ls hl => ?_)
  exact h2 bs_fu st (0 : Int32) _ _ _ hH (lv_sub hl [1, 0] rfl) hd
section CR_X_mixParish
variable {p : Program} {l : Launch} {e : Env} {R : Room} {s : State} {m : MethodId} {args : Array Value} {below : List Frame} {meth : Method} {c : Code} {H : Heap} {locs : List Loc} {cells slots : Nat} {Q : State → Prop}
variable {cc : ByteArray} {pc nL idx : Nat} {ls : Array Slot} {rest : List Value} {lv : List (Nat × Value)} {A : Nat → Prop} {H0 : Heap} {own : String}
theorem call_X_mixParish {D : va_G} {ct : Nat → ClassId} {a : XA} {ρ : Option Nat} {st : XS} {z : XS} (S : CallFix p m c cc nL s args lw_all own) (hl : lv_has ls nL lv) (hE : gEX s) (hK : va_K D clA (tysG ct) s) (hH : GH D A (xAs a) H0 (WX ct a ρ st) H locs) (hlk : Cond.methodLink own idx yX0_mixParish ∈ lw_all) (hv : X_mixParish st = some z) (hR : 9 ≤ R.frames ∧ 236 ≤ R.locals) (hsum : (rest.map fun v => v.category).sum ≤ 8) (hdg : decode cc pc = .ok (.invokevirtual idx, 3)) (hf : cells ≤ R.cells ∧ slots ≤ R.slots)
    (k : ∀ (H1 : Heap) (locs1 : List Loc), GH D A (xAs a) H0 (WX ct a ρ z) H1 locs1 → W p l e R s m args below meth c H1 locs1 cells slots Q (F0 m (pc + 3) ls (rest))) : W p l e R s m args below meth c H locs cells slots Q (F0 m pc ls (.ref (ah a 0) :: rest)) :=
  g_callv (av := []) S hl gEX_ok hE hK hH (met_X_mixParish l D ct a ρ H.size st z hv) (lw_V hlk q905 qs35 q69 q906) rfl rfl ⟨rfl, by decide, by decide, by show (parseMethodDescriptor yX0_mixParish.desc).map (fun d => d.parameters.length) = some 0; decide +kernel⟩ hR (x_recv hK hH) (fun _ h => Or.inl h) rfl hsum hdg hf k
end CR_X_mixParish
