set_option maxRecDepth 100000
/-! CapCouncil.at (II)I -/
def X_at (st : XS) (a1 : Int32) (a2 : Int32) : Option (XS × Int32) :=
  (X_isRow a1).bind fun v1 =>
  if v1 = 0 then
    (some (st, (-1 : Int32)))
  else
    ((bs_ix 6 a1).bind fun v3 =>
    if (xr st v3).isSome = true then
      (if bs_in a2 (xrN st v3) = true then
        ((xrl st v3 a2).bind fun v9 =>
        (X_ask st v9 (1 : Int32)).bind fun q10 =>
        some (q10.1, q10.2))
      else
        (bs_g (decide (xrN st v3 < 2147483648)) <|
        (X_found st (2 : Int32)).bind fun q8 =>
        some (q8.1, q8.2)))
    else
      ((X_found st (1 : Int32)).bind fun q6 =>
      some (q6.1, q6.2)))
def rm_X_at : Room := { frames := 9, cells := 3, slots := 222, locals := 10320 }
set_option maxHeartbeats 4000000 in
set_option maxRecDepth 100000 in
theorem met_X_at (l : Launch) (hfl : l.stackTraces = false) (D : va_G) (ct : Nat → ClassId) (a : XA) (ρ : Option Nat) (sz : Nat) (st : XS) (a1 : Int32) (a2 : Int32) (z : (XS × Int32)) (hd : X_at st a1 a2 = some z) : vx_Met l yX0_at (wsW_ yX0_at cX0_at 4 (some .int) [(9, 22, 23, 98), (9, 22, 30, 100)]) rm_X_at (GPreX D ct (xAs a) (WX ct a ρ st) sz [.ref (ah a 0), .int a1, .int a2]) (GQi D (xAs a) (xAs a) (WX ct a ρ z.1) sz z.2) XNo 3 222 (gA (xAs a) sz) := by
  refine gx_met (cc := cX0_at) (maxL := 4) (ret := (some .int)) (by decide) (Nat.le_of_ble_eq_true rfl) ?_
  intro p e U m args below meth c ls S hr hlk hK hH hE hZ hsz htb hl
  subst hsz
  have S : CallFix p m c cX0_at 4 U args lw_all RX0 := S
  have hx := S.1
  have hb := S.2.1
  have hl : lv_has ls 4 [(0, .ref (ah a 0)), (1, .int a1), (2, .int a2)] := hl
  unfold X_at at hd
  refine lv_iload_n (pc := 0) hx hb dX0_at_0 rfl (lv_at hl 1 rfl) ?_
  obtain ⟨v1, hv1, hd⟩ := bs_bd hd
  refine call_X_isRow (pc := 1) S hl q282 hv1 ⟨Nat.le_of_ble_eq_true rfl, Nat.le_of_ble_eq_true rfl⟩ (Nat.le_of_ble_eq_true rfl) dX0_at_1 ⟨Nat.le_of_ble_eq_true rfl, Nat.le_of_ble_eq_true rfl⟩ ?_
  refine lv_if_ne (pc := 4) (tgt := 9) hx hb dX0_at_4 (by decide) (fun c2 => ?_) (fun c2 => ?_)
  · have hd := if_n c2 hd
    refine lv_aload_n (pc := 9) hx hb dX0_at_9 rfl (lv_at hl 0 rfl) ?_
    refine lv_aload_n (pc := 10) hx hb dX0_at_10 rfl (lv_at hl 0 rfl) ?_
    refine xg_rows (pc := 11) S hK hH dX0_at_11 ?_
    refine lv_iload_n (pc := 14) hx hb dX0_at_14 rfl (lv_at hl 1 rfl) ?_
    obtain ⟨v3, hv3, hd⟩ := bs_bd hd
    refine xq_rows (pc := 15) S hK hH hv3 dX0_at_15 ?_
    refine lv_iload_n (pc := 16) hx hb dX0_at_16 rfl (lv_at hl 2 rfl) ?_
    by_cases c4 : (xr st v3).isSome = true
    · have hd := if_t c4 hd
      by_cases c5 : bs_in a2 (xrN st v3) = true
      · have hd := if_t c5 hd
        obtain ⟨v9, hv9, hd⟩ := bs_bd hd
        refine xr_ild (pc := 17) S hK hH (bs_ix_lt hv3) hv9 dX0_at_17 ?_
        refine lv_iconst (v := (1 : Int32)) (pc := 18) hx hb dX0_at_18 (by decide) ?_
        obtain ⟨q10, hq10, hd⟩ := bs_bd hd
        refine call_X_ask (pc := 19) S hl hE hK hH q344 hq10 ⟨Nat.le_of_ble_eq_true rfl, Nat.le_of_ble_eq_true rfl⟩ (Nat.le_of_ble_eq_true rfl) dX0_at_19 ⟨Nat.le_of_ble_eq_true rfl, Nat.le_of_ble_eq_true rfl⟩ (fun H locs hH => ?_)
        refine vx_ret ?_
        refine W.widen (k := 3) (n := 222) (Nat.le_of_ble_eq_true rfl) (Nat.le_of_ble_eq_true rfl) ?_
        exact g_iret (WX ct a ρ) hd S hr hlk hH dX0_at_22
      · have hd := if_n c5 hd
        obtain ⟨z7, hd⟩ := bs_g_spec hd
        refine xr_ildZ (pc := 17) S hK hH (bs_ix_lt hv3) c4 c5 dX0_at_17 (fun tx etx => ?_)
        subst etx
        refine cx_msg (N := "java/lang/ArrayIndexOutOfBoundsException") (hat_AIOOBE S.2.2.2.2 hE) hgd_AIOOBE (by decide) (by decide) (by decide) (by decide) (by decide) (index_text_modelled _ _) (index_text_bytes _ (of_decide_eq_true z7)) (by decide) (hE.1 _ (List.mem_of_getElem? (i := 11) rfl)) S hfl hlk hl hZ hH ⟨Nat.le_of_ble_eq_true rfl, Nat.le_of_ble_eq_true rfl⟩ (Nat.le_of_ble_eq_true rfl) ⟨Nat.le_of_ble_eq_true rfl, Nat.le_of_ble_eq_true rfl⟩ [⟨9, 22, 23, 98⟩] ⟨9, 22, 30, 100⟩ [] (htb.trans rfl) (List.forall_mem_cons.mpr ⟨Or.inr ⟨by decide, "java/lang/NullPointerException", S.2.2.2.2 _ q300, hE.2.1 _ (List.mem_of_getElem? (i := 0) rfl)⟩, fun z h => by cases h⟩) (by decide) (by decide) q325 (fun H q9 hH => ?_)
        refine lv_astore_n (pc := 30) (lv' := [(3, .ref q9), (0, .ref (ah a 0)), (1, .int a1), (2, .int a2)]) hx hb dX0_at_30 rfl hl (by decide) rfl (fun ls hl => ?_)
        refine lv_aload_n (pc := 31) hx hb dX0_at_31 rfl (lv_at hl 1 rfl) ?_
        refine lv_iconst (v := (2 : Int32)) (pc := 32) hx hb dX0_at_32 (by decide) ?_
        obtain ⟨q8, hq8, hd⟩ := bs_bd hd
        refine call_X_found (pc := 33) S hl hE hK hH q288 hq8 ⟨Nat.le_of_ble_eq_true rfl, Nat.le_of_ble_eq_true rfl⟩ (Nat.le_of_ble_eq_true rfl) dX0_at_33 ⟨Nat.le_of_ble_eq_true rfl, Nat.le_of_ble_eq_true rfl⟩ (fun H locs hH => ?_)
        refine vx_ret ?_
        refine W.widen (k := 3) (n := 222) (Nat.le_of_ble_eq_true rfl) (Nat.le_of_ble_eq_true rfl) ?_
        exact g_iret (WX ct a ρ) hd S hr hlk hH dX0_at_36
    · have hd := if_n c4 hd
      refine xr_ildN (pc := 17) (j := v3) S hH (Nat.lt_of_lt_of_le (bs_ix_lt hv3) (by decide)) c4 dX0_at_17 ?_
      refine cx_npe S hfl hlk hl hE hZ hH ⟨Nat.le_of_ble_eq_true rfl, Nat.le_of_ble_eq_true rfl⟩ (Nat.le_of_ble_eq_true rfl) ⟨Nat.le_of_ble_eq_true rfl, Nat.le_of_ble_eq_true rfl⟩ [] ⟨9, 22, 23, 98⟩ [⟨9, 22, 30, 100⟩] (htb.trans rfl) (fun z h => by cases h) (by decide) (by decide) q300 (fun H q9 hH => ?_)
      refine lv_astore_n (pc := 23) (lv' := [(3, .ref q9), (0, .ref (ah a 0)), (1, .int a1), (2, .int a2)]) hx hb dX0_at_23 rfl hl (by decide) rfl (fun ls hl => ?_)
      refine lv_aload_n (pc := 24) hx hb dX0_at_24 rfl (lv_at hl 1 rfl) ?_
      refine lv_iconst (v := (1 : Int32)) (pc := 25) hx hb dX0_at_25 (by decide) ?_
      obtain ⟨q6, hq6, hd⟩ := bs_bd hd
      refine call_X_found (pc := 26) S hl hE hK hH q288 hq6 ⟨Nat.le_of_ble_eq_true rfl, Nat.le_of_ble_eq_true rfl⟩ (Nat.le_of_ble_eq_true rfl) dX0_at_26 ⟨Nat.le_of_ble_eq_true rfl, Nat.le_of_ble_eq_true rfl⟩ (fun H locs hH => ?_)
      refine vx_ret ?_
      refine W.widen (k := 3) (n := 222) (Nat.le_of_ble_eq_true rfl) (Nat.le_of_ble_eq_true rfl) ?_
      exact g_iret (WX ct a ρ) hd S hr hlk hH dX0_at_29
  · have hd := if_t c2 hd
    refine lv_iconst (v := (-1 : Int32)) (pc := 7) hx hb dX0_at_7 (by decide) ?_
    refine vx_ret ?_
    refine W.widen (k := 3) (n := 222) (Nat.le_of_ble_eq_true rfl) (Nat.le_of_ble_eq_true rfl) ?_
    exact g_iret (WX ct a ρ) hd S hr hlk hH dX0_at_8
section CR_X_at
variable {p : Program} {l : Launch} {e : Env} {R : Room} {s : State} {m : MethodId} {args : Array Value} {below : List Frame} {meth : Method} {c : Code} {H : Heap} {locs : List Loc} {cells slots : Nat} {Q : State → Prop}
variable {cc : ByteArray} {pc nL idx : Nat} {ls : Array Slot} {rest : List Value} {lv : List (Nat × Value)} {A : Nat → Prop} {H0 : Heap} {own : String}
theorem call_X_at {D : va_G} {ct : Nat → ClassId} {a : XA} {ρ : Option Nat} {st : XS} {a1 : Int32} {a2 : Int32} {z : (XS × Int32)} (hfl : l.stackTraces = false) (S : CallFix p m c cc nL s args lw_all own) (hl : lv_has ls nL lv) (hE : gEX s) (hK : va_K D clA (tysG ct) s) (hH : GH D A (xAs a) H0 (WX ct a ρ st) H locs) (hZ : vx_Zq Bundle.tN "UNASSIGNED_STACK" Bundle.steD (gA (xAs a) H.size) s H ∧ vx_Zq Bundle.tN "SUPPRESSED_SENTINEL" Bundle.listD (gA (xAs a) H.size) s H) (hlk : Cond.methodLink own idx yX0_at ∈ lw_all) (hv : X_at st a1 a2 = some z) (hR : 10 ≤ R.frames ∧ 10343 ≤ R.locals) (hsum : (rest.map fun v => v.category).sum ≤ 8) (hdg : decode cc pc = .ok (.invokevirtual idx, 3)) (hf : cells + 3 ≤ R.cells ∧ slots + 222 ≤ R.slots)
    (k : ∀ (H1 : Heap) (locs1 : List Loc), GH D A (xAs a) H0 (WX ct a ρ z.1) H1 locs1 → W p l e R s m args below meth c H1 locs1 (cells + 3) (slots + 222) Q (F0 m (pc + 3) ls (.int z.2 :: rest))) : W p l e R s m args below meth c H locs cells slots Q (F0 m pc ls (.int a2 :: .int a1 :: .ref (ah a 0) :: rest)) :=
  gx_calli (av := [.int a1, .int a2]) S hl hE hK hH hZ (met_X_at l hfl D ct a ρ H.size st a1 a2 z hv) (lw_VW hlk q297 q298 q69 q299) rfl rfl ⟨rfl, by decide, by decide, by show (parseMethodDescriptor yX0_at.desc).map (fun d => d.parameters.length) = some 2; decide +kernel⟩ hR (x_recv hK hH) (fun _ h => Or.inl h) rfl hsum hdg hf k
end CR_X_at
/-! CapCouncil.put (III)I -/
def X_put (st : XS) (a1 : Int32) (a2 : Int32) (a3 : Int32) : Option (XS × Int32) :=
  (X_isText a1).bind fun v1 =>
  if v1 = 0 then
    (some (st, (-1 : Int32)))
  else
    ((bs_ix 4 a1).bind fun v3 =>
    if (xr st (6 + v3)).isSome = true then
      (if bs_in a2 (xrN st (6 + v3)) = true then
        ((xrl st (6 + v3) a2).bind fun v9 =>
        (bs_ix 4 a1).bind fun v10 =>
        if (xr st (6 + v10)).isSome = true then
          (if bs_in a2 (xrN st (6 + v10)) = true then
            ((xrs st (6 + v10) a2 (vp_nar .byte ((a3).toInt8.toInt32))).bind fun s16 =>
            some (s16, (v9 + (1000 : Int32))))
          else
            (bs_g (decide (xrN st (6 + v10) < 2147483648)) <|
            (X_found st (2 : Int32)).bind fun q15 =>
            some (q15.1, q15.2)))
        else
          ((X_found st (1 : Int32)).bind fun q13 =>
          some (q13.1, q13.2)))
      else
        (bs_g (decide (xrN st (6 + v3) < 2147483648)) <|
        (X_found st (2 : Int32)).bind fun q8 =>
        some (q8.1, q8.2)))
    else
      ((X_found st (1 : Int32)).bind fun q6 =>
      some (q6.1, q6.2)))
def rm_X_put : Room := { frames := 9, cells := 3, slots := 222, locals := 10320 }
set_option maxHeartbeats 4000000 in
set_option maxRecDepth 100000 in
theorem met_X_put (l : Launch) (hfl : l.stackTraces = false) (D : va_G) (ct : Nat → ClassId) (a : XA) (ρ : Option Nat) (sz : Nat) (st : XS) (a1 : Int32) (a2 : Int32) (a3 : Int32) (z : (XS × Int32)) (hd : X_put st a1 a2 a3 = some z) : vx_Met l yX0_put (wsW_ yX0_put cX0_put 5 (some .int) [(9, 35, 36, 98), (9, 35, 44, 100)]) rm_X_put (GPreX D ct (xAs a) (WX ct a ρ st) sz [.ref (ah a 0), .int a1, .int a2, .int a3]) (GQi D (xAs a) (xAs a) (WX ct a ρ z.1) sz z.2) XNo 3 222 (gA (xAs a) sz) := by
  refine gx_met (cc := cX0_put) (maxL := 5) (ret := (some .int)) (by decide) (Nat.le_of_ble_eq_true rfl) ?_
  intro p e U m args below meth c ls S hr hlk hK hH hE hZ hsz htb hl
  subst hsz
  have S : CallFix p m c cX0_put 5 U args lw_all RX0 := S
  have hx := S.1
  have hb := S.2.1
  have hl : lv_has ls 5 [(0, .ref (ah a 0)), (1, .int a1), (2, .int a2), (3, .int a3)] := hl
  unfold X_put at hd
  refine lv_iload_n (pc := 0) hx hb dX0_put_0 rfl (lv_at hl 1 rfl) ?_
  obtain ⟨v1, hv1, hd⟩ := bs_bd hd
  refine call_X_isText (pc := 1) S hl q383 hv1 ⟨Nat.le_of_ble_eq_true rfl, Nat.le_of_ble_eq_true rfl⟩ (Nat.le_of_ble_eq_true rfl) dX0_put_1 ⟨Nat.le_of_ble_eq_true rfl, Nat.le_of_ble_eq_true rfl⟩ ?_
  refine lv_if_ne (pc := 4) (tgt := 9) hx hb dX0_put_4 (by decide) (fun c2 => ?_) (fun c2 => ?_)
  · have hd := if_n c2 hd
    refine lv_aload_n (pc := 9) hx hb dX0_put_9 rfl (lv_at hl 0 rfl) ?_
    refine xg_texts (pc := 10) S hK hH dX0_put_10 ?_
    refine lv_iload_n (pc := 13) hx hb dX0_put_13 rfl (lv_at hl 1 rfl) ?_
    obtain ⟨v3, hv3, hd⟩ := bs_bd hd
    refine xq_texts (pc := 14) S hK hH hv3 dX0_put_14 ?_
    refine lv_iload_n (pc := 15) hx hb dX0_put_15 rfl (lv_at hl 2 rfl) ?_
    by_cases c4 : (xr st (6 + v3)).isSome = true
    · have hd := if_t c4 hd
      by_cases c5 : bs_in a2 (xrN st (6 + v3)) = true
      · have hd := if_t c5 hd
        obtain ⟨v9, hv9, hd⟩ := bs_bd hd
        refine xr_bld (pc := 16) S hK hH (bs_ix_lt hv3) hv9 dX0_put_16 ?_
        refine lv_istore (pc := 17) (lv' := [(4, .int v9), (0, .ref (ah a 0)), (1, .int a1), (2, .int a2), (3, .int a3)]) hx hb dX0_put_17 hl (by decide) rfl (fun ls hl => ?_)
        refine lv_aload_n (pc := 19) hx hb dX0_put_19 rfl (lv_at hl 1 rfl) ?_
        refine xg_texts (pc := 20) S hK hH dX0_put_20 ?_
        refine lv_iload_n (pc := 23) hx hb dX0_put_23 rfl (lv_at hl 2 rfl) ?_
        obtain ⟨v10, hv10, hd⟩ := bs_bd hd
        refine xq_texts (pc := 24) S hK hH hv10 dX0_put_24 ?_
        refine lv_iload_n (pc := 25) hx hb dX0_put_25 rfl (lv_at hl 3 rfl) ?_
        refine lv_iload_n (pc := 26) hx hb dX0_put_26 rfl (lv_at hl 4 rfl) ?_
        refine lv_i2b (pc := 27) hx hb dX0_put_27 rfl ?_
        by_cases c11 : (xr st (6 + v10)).isSome = true
        · have hd := if_t c11 hd
          by_cases c12 : bs_in a2 (xrN st (6 + v10)) = true
          · have hd := if_t c12 hd
            obtain ⟨s16, hs16, hd⟩ := bs_bd hd
            refine xr_bst (pc := 28) S hK hH (bs_ix_lt hv10) hs16 dX0_put_28 (fun H locs hH => ?_)
            refine lv_iload (pc := 29) hx hb dX0_put_29 (lv_at hl 0 rfl) ?_
            refine lv_sipush (v := (1000 : Int32)) (pc := 31) hx hb dX0_put_31 (by decide) ?_
            refine lv_iadd (pc := 34) hx hb dX0_put_34 ?_
            refine vx_ret ?_
            refine W.widen (k := 3) (n := 222) (Nat.le_of_ble_eq_true rfl) (Nat.le_of_ble_eq_true rfl) ?_
            exact g_iret (WX ct a ρ) hd S hr hlk hH dX0_put_35
          · have hd := if_n c12 hd
            obtain ⟨z14, hd⟩ := bs_g_spec hd
            refine xr_bstZ (pc := 28) S hK hH (bs_ix_lt hv10) c11 c12 dX0_put_28 (fun tx etx => ?_)
            subst etx
            refine cx_msg (N := "java/lang/ArrayIndexOutOfBoundsException") (hat_AIOOBE S.2.2.2.2 hE) hgd_AIOOBE (by decide) (by decide) (by decide) (by decide) (by decide) (index_text_modelled _ _) (index_text_bytes _ (of_decide_eq_true z14)) (by decide) (hE.1 _ (List.mem_of_getElem? (i := 11) rfl)) S hfl hlk hl hZ hH ⟨Nat.le_of_ble_eq_true rfl, Nat.le_of_ble_eq_true rfl⟩ (Nat.le_of_ble_eq_true rfl) ⟨Nat.le_of_ble_eq_true rfl, Nat.le_of_ble_eq_true rfl⟩ [⟨9, 35, 36, 98⟩] ⟨9, 35, 44, 100⟩ [] (htb.trans rfl) (List.forall_mem_cons.mpr ⟨Or.inr ⟨by decide, "java/lang/NullPointerException", S.2.2.2.2 _ q300, hE.2.1 _ (List.mem_of_getElem? (i := 0) rfl)⟩, fun z h => by cases h⟩) (by decide) (by decide) q325 (fun H q9 hH => ?_)
            refine lv_astore (pc := 44) (lv' := [(4, .ref q9), (0, .ref (ah a 0)), (1, .int a1), (2, .int a2), (3, .int a3)]) hx hb dX0_put_44 hl (by decide) rfl (fun ls hl => ?_)
            refine lv_aload_n (pc := 46) hx hb dX0_put_46 rfl (lv_at hl 1 rfl) ?_
            refine lv_iconst (v := (2 : Int32)) (pc := 47) hx hb dX0_put_47 (by decide) ?_
            obtain ⟨q15, hq15, hd⟩ := bs_bd hd
            refine call_X_found (pc := 48) S hl hE hK hH q288 hq15 ⟨Nat.le_of_ble_eq_true rfl, Nat.le_of_ble_eq_true rfl⟩ (Nat.le_of_ble_eq_true rfl) dX0_put_48 ⟨Nat.le_of_ble_eq_true rfl, Nat.le_of_ble_eq_true rfl⟩ (fun H locs hH => ?_)
            refine vx_ret ?_
            refine W.widen (k := 3) (n := 222) (Nat.le_of_ble_eq_true rfl) (Nat.le_of_ble_eq_true rfl) ?_
            exact g_iret (WX ct a ρ) hd S hr hlk hH dX0_put_51
        · have hd := if_n c11 hd
          refine xr_bstN (pc := 28) (j := (6 + v10)) S hH (Nat.add_lt_add_left (bs_ix_lt hv10) 6) c11 dX0_put_28 ?_
          refine cx_npe S hfl hlk hl hE hZ hH ⟨Nat.le_of_ble_eq_true rfl, Nat.le_of_ble_eq_true rfl⟩ (Nat.le_of_ble_eq_true rfl) ⟨Nat.le_of_ble_eq_true rfl, Nat.le_of_ble_eq_true rfl⟩ [] ⟨9, 35, 36, 98⟩ [⟨9, 35, 44, 100⟩] (htb.trans rfl) (fun z h => by cases h) (by decide) (by decide) q300 (fun H q9 hH => ?_)
          refine lv_astore (pc := 36) (lv' := [(4, .ref q9), (0, .ref (ah a 0)), (1, .int a1), (2, .int a2), (3, .int a3)]) hx hb dX0_put_36 hl (by decide) rfl (fun ls hl => ?_)
          refine lv_aload_n (pc := 38) hx hb dX0_put_38 rfl (lv_at hl 1 rfl) ?_
          refine lv_iconst (v := (1 : Int32)) (pc := 39) hx hb dX0_put_39 (by decide) ?_
          obtain ⟨q13, hq13, hd⟩ := bs_bd hd
          refine call_X_found (pc := 40) S hl hE hK hH q288 hq13 ⟨Nat.le_of_ble_eq_true rfl, Nat.le_of_ble_eq_true rfl⟩ (Nat.le_of_ble_eq_true rfl) dX0_put_40 ⟨Nat.le_of_ble_eq_true rfl, Nat.le_of_ble_eq_true rfl⟩ (fun H locs hH => ?_)
          refine vx_ret ?_
          refine W.widen (k := 3) (n := 222) (Nat.le_of_ble_eq_true rfl) (Nat.le_of_ble_eq_true rfl) ?_
          exact g_iret (WX ct a ρ) hd S hr hlk hH dX0_put_43
      · have hd := if_n c5 hd
        obtain ⟨z7, hd⟩ := bs_g_spec hd
        refine xr_bldZ (pc := 16) S hK hH (bs_ix_lt hv3) c4 c5 dX0_put_16 (fun tx etx => ?_)
        subst etx
        refine cx_msg (N := "java/lang/ArrayIndexOutOfBoundsException") (hat_AIOOBE S.2.2.2.2 hE) hgd_AIOOBE (by decide) (by decide) (by decide) (by decide) (by decide) (index_text_modelled _ _) (index_text_bytes _ (of_decide_eq_true z7)) (by decide) (hE.1 _ (List.mem_of_getElem? (i := 11) rfl)) S hfl hlk hl hZ hH ⟨Nat.le_of_ble_eq_true rfl, Nat.le_of_ble_eq_true rfl⟩ (Nat.le_of_ble_eq_true rfl) ⟨Nat.le_of_ble_eq_true rfl, Nat.le_of_ble_eq_true rfl⟩ [⟨9, 35, 36, 98⟩] ⟨9, 35, 44, 100⟩ [] (htb.trans rfl) (List.forall_mem_cons.mpr ⟨Or.inr ⟨by decide, "java/lang/NullPointerException", S.2.2.2.2 _ q300, hE.2.1 _ (List.mem_of_getElem? (i := 0) rfl)⟩, fun z h => by cases h⟩) (by decide) (by decide) q325 (fun H q9 hH => ?_)
        refine lv_astore (pc := 44) (lv' := [(4, .ref q9), (0, .ref (ah a 0)), (1, .int a1), (2, .int a2), (3, .int a3)]) hx hb dX0_put_44 hl (by decide) rfl (fun ls hl => ?_)
        refine lv_aload_n (pc := 46) hx hb dX0_put_46 rfl (lv_at hl 1 rfl) ?_
        refine lv_iconst (v := (2 : Int32)) (pc := 47) hx hb dX0_put_47 (by decide) ?_
        obtain ⟨q8, hq8, hd⟩ := bs_bd hd
        refine call_X_found (pc := 48) S hl hE hK hH q288 hq8 ⟨Nat.le_of_ble_eq_true rfl, Nat.le_of_ble_eq_true rfl⟩ (Nat.le_of_ble_eq_true rfl) dX0_put_48 ⟨Nat.le_of_ble_eq_true rfl, Nat.le_of_ble_eq_true rfl⟩ (fun H locs hH => ?_)
        refine vx_ret ?_
        refine W.widen (k := 3) (n := 222) (Nat.le_of_ble_eq_true rfl) (Nat.le_of_ble_eq_true rfl) ?_
        exact g_iret (WX ct a ρ) hd S hr hlk hH dX0_put_51
    · have hd := if_n c4 hd
      refine xr_bldN (pc := 16) (j := (6 + v3)) S hH (Nat.add_lt_add_left (bs_ix_lt hv3) 6) c4 dX0_put_16 ?_
      refine cx_npe S hfl hlk hl hE hZ hH ⟨Nat.le_of_ble_eq_true rfl, Nat.le_of_ble_eq_true rfl⟩ (Nat.le_of_ble_eq_true rfl) ⟨Nat.le_of_ble_eq_true rfl, Nat.le_of_ble_eq_true rfl⟩ [] ⟨9, 35, 36, 98⟩ [⟨9, 35, 44, 100⟩] (htb.trans rfl) (fun z h => by cases h) (by decide) (by decide) q300 (fun H q9 hH => ?_)
      refine lv_astore (pc := 36) (lv' := [(4, .ref q9), (0, .ref (ah a 0)), (1, .int a1), (2, .int a2), (3, .int a3)]) hx hb dX0_put_36 hl (by decide) rfl (fun ls hl => ?_)
      refine lv_aload_n (pc := 38) hx hb dX0_put_38 rfl (lv_at hl 1 rfl) ?_
      refine lv_iconst (v := (1 : Int32)) (pc := 39) hx hb dX0_put_39 (by decide) ?_
      obtain ⟨q6, hq6, hd⟩ := bs_bd hd
      refine call_X_found (pc := 40) S hl hE hK hH q288 hq6 ⟨Nat.le_of_ble_eq_true rfl, Nat.le_of_ble_eq_true rfl⟩ (Nat.le_of_ble_eq_true rfl) dX0_put_40 ⟨Nat.le_of_ble_eq_true rfl, Nat.le_of_ble_eq_true rfl⟩ (fun H locs hH => ?_)
      refine vx_ret ?_
      refine W.widen (k := 3) (n := 222) (Nat.le_of_ble_eq_true rfl) (Nat.le_of_ble_eq_true rfl) ?_
      exact g_iret (WX ct a ρ) hd S hr hlk hH dX0_put_43
  · have hd := if_t c2 hd
    refine lv_iconst (v := (-1 : Int32)) (pc := 7) hx hb dX0_put_7 (by decide) ?_
    refine vx_ret ?_
    refine W.widen (k := 3) (n := 222) (Nat.le_of_ble_eq_true rfl) (Nat.le_of_ble_eq_true rfl) ?_
    exact g_iret (WX ct a ρ) hd S hr hlk hH dX0_put_8
section CR_X_put
variable {p : Program} {l : Launch} {e : Env} {R : Room} {s : State} {m : MethodId} {args : Array Value} {below : List Frame} {meth : Method} {c : Code} {H : Heap} {locs : List Loc} {cells slots : Nat} {Q : State → Prop}
variable {cc : ByteArray} {pc nL idx : Nat} {ls : Array Slot} {rest : List Value} {lv : List (Nat × Value)} {A : Nat → Prop} {H0 : Heap} {own : String}
theorem call_X_put {D : va_G} {ct : Nat → ClassId} {a : XA} {ρ : Option Nat} {st : XS} {a1 : Int32} {a2 : Int32} {a3 : Int32} {z : (XS × Int32)} (hfl : l.stackTraces = false) (S : CallFix p m c cc nL s args lw_all own) (hl : lv_has ls nL lv) (hE : gEX s) (hK : va_K D clA (tysG ct) s) (hH : GH D A (xAs a) H0 (WX ct a ρ st) H locs) (hZ : vx_Zq Bundle.tN "UNASSIGNED_STACK" Bundle.steD (gA (xAs a) H.size) s H ∧ vx_Zq Bundle.tN "SUPPRESSED_SENTINEL" Bundle.listD (gA (xAs a) H.size) s H) (hlk : Cond.methodLink own idx yX0_put ∈ lw_all) (hv : X_put st a1 a2 a3 = some z) (hR : 10 ≤ R.frames ∧ 10344 ≤ R.locals) (hsum : (rest.map fun v => v.category).sum ≤ 8) (hdg : decode cc pc = .ok (.invokevirtual idx, 3)) (hf : cells + 3 ≤ R.cells ∧ slots + 222 ≤ R.slots)
    (k : ∀ (H1 : Heap) (locs1 : List Loc), GH D A (xAs a) H0 (WX ct a ρ z.1) H1 locs1 → W p l e R s m args below meth c H1 locs1 (cells + 3) (slots + 222) Q (F0 m (pc + 3) ls (.int z.2 :: rest))) : W p l e R s m args below meth c H locs cells slots Q (F0 m pc ls (.int a3 :: .int a2 :: .int a1 :: .ref (ah a 0) :: rest)) :=
  gx_calli (av := [.int a1, .int a2, .int a3]) S hl hE hK hH hZ (met_X_put l hfl D ct a ρ H.size st a1 a2 a3 z hv) (lw_VW hlk q387 q388 q69 q389) rfl rfl ⟨rfl, by decide, by decide, by show (parseMethodDescriptor yX0_put.desc).map (fun d => d.parameters.length) = some 3; decide +kernel⟩ hR (x_recv hK hH) (fun _ h => Or.inl h) rfl hsum hdg hf k
end CR_X_put
/-! CapCouncil.lay (III)I -/
def X_lay (st : XS) (a1 : Int32) (a2 : Int32) (a3 : Int32) : Option (XS × Int32) :=
  (X_at st a1 a2).bind fun q1 =>
  if q1.2 = (1 : Int32) then
    ((bs_ix 6 a1).bind fun v3 =>
    (xrs q1.1 v3 a2 a3).bind fun s4 =>
    some (s4, q1.2))
  else
    (some (q1.1, q1.2))
def rm_X_lay : Room := { frames := 11, cells := 3, slots := 222, locals := 10400 }
set_option maxHeartbeats 4000000 in
set_option maxRecDepth 100000 in
theorem met_X_lay (l : Launch) (hfl : l.stackTraces = false) (D : va_G) (ct : Nat → ClassId) (a : XA) (ρ : Option Nat) (sz : Nat) (st : XS) (a1 : Int32) (a2 : Int32) (a3 : Int32) (z : (XS × Int32)) (hd : X_lay st a1 a2 a3 = some z) : Met l yX0_lay (ws_ yX0_lay cX0_lay 5 (some .int)) rm_X_lay (GPreX D ct (xAs a) (WX ct a ρ st) sz [.ref (ah a 0), .int a1, .int a2, .int a3]) (GQi D (xAs a) (xAs a) (WX ct a ρ z.1) sz z.2) 3 222 (gA (xAs a) sz) := by
  refine gy_met (cc := cX0_lay) (maxL := 5) (ret := (some .int)) (by decide) (Nat.le_of_ble_eq_true rfl) ?_
  intro p e U m args below meth c ls S hr hlk hK hH hE hZ hsz hl
  subst hsz
  have S : CallFix p m c cX0_lay 5 U args lw_all RX0 := S
  have hx := S.1
  have hb := S.2.1
  have hl : lv_has ls 5 [(0, .ref (ah a 0)), (1, .int a1), (2, .int a2), (3, .int a3)] := hl
  unfold X_lay at hd
  refine lv_aload_n (pc := 0) hx hb dX0_lay_0 rfl (lv_at hl 0 rfl) ?_
  refine lv_iload_n (pc := 1) hx hb dX0_lay_1 rfl (lv_at hl 1 rfl) ?_
  refine lv_iload_n (pc := 2) hx hb dX0_lay_2 rfl (lv_at hl 2 rfl) ?_
  obtain ⟨q1, hq1, hd⟩ := bs_bd hd
  refine call_X_at (pc := 3) hfl S hl hE hK hH hZ q296 hq1 ⟨Nat.le_of_ble_eq_true rfl, Nat.le_of_ble_eq_true rfl⟩ (Nat.le_of_ble_eq_true rfl) dX0_lay_3 ⟨Nat.le_of_ble_eq_true rfl, Nat.le_of_ble_eq_true rfl⟩ (fun H locs hH => ?_)
  refine lv_istore (pc := 6) (lv' := [(4, .int q1.2), (0, .ref (ah a 0)), (1, .int a1), (2, .int a2), (3, .int a3)]) hx hb dX0_lay_6 hl (by decide) rfl (fun ls hl => ?_)
  refine lv_iload (pc := 8) hx hb dX0_lay_8 (lv_at hl 0 rfl) ?_
  refine lv_iconst (v := (1 : Int32)) (pc := 10) hx hb dX0_lay_10 (by decide) ?_
  refine lv_icmp_ne (pc := 11) (tgt := 23) hx hb dX0_lay_11 (by decide) (fun c2 => ?_) (fun c2 => ?_)
  · have hd := if_n c2 hd
    refine lv_iload (pc := 23) hx hb dX0_lay_23 (lv_at hl 0 rfl) ?_
    refine W.widen (k := 3) (n := 222) (Nat.le_of_ble_eq_true rfl) (Nat.le_of_ble_eq_true rfl) ?_
    exact g_iret (WX ct a ρ) hd S hr hlk hH dX0_lay_25
  · have hd := if_t c2 hd
    refine lv_aload_n (pc := 14) hx hb dX0_lay_14 rfl (lv_at hl 1 rfl) ?_
    refine xg_rows (pc := 15) S hK hH dX0_lay_15 ?_
    refine lv_iload_n (pc := 18) hx hb dX0_lay_18 rfl (lv_at hl 2 rfl) ?_
    obtain ⟨v3, hv3, hd⟩ := bs_bd hd
    refine xq_rows (pc := 19) S hK hH hv3 dX0_lay_19 ?_
    refine lv_iload_n (pc := 20) hx hb dX0_lay_20 rfl (lv_at hl 3 rfl) ?_
    refine lv_iload_n (pc := 21) hx hb dX0_lay_21 rfl (lv_at hl 4 rfl) ?_
    obtain ⟨s4, hs4, hd⟩ := bs_bd hd
    refine xr_ist (pc := 22) S hK hH (bs_ix_lt hv3) hs4 dX0_lay_22 (fun H locs hH => ?_)
    refine lv_iload (pc := 23) hx hb dX0_lay_23 (lv_at hl 0 rfl) ?_
    refine W.widen (k := 3) (n := 222) (Nat.le_of_ble_eq_true rfl) (Nat.le_of_ble_eq_true rfl) ?_
    exact g_iret (WX ct a ρ) hd S hr hlk hH dX0_lay_25
section CR_X_lay
variable {p : Program} {l : Launch} {e : Env} {R : Room} {s : State} {m : MethodId} {args : Array Value} {below : List Frame} {meth : Method} {c : Code} {H : Heap} {locs : List Loc} {cells slots : Nat} {Q : State → Prop}
variable {cc : ByteArray} {pc nL idx : Nat} {ls : Array Slot} {rest : List Value} {lv : List (Nat × Value)} {A : Nat → Prop} {H0 : Heap} {own : String}
theorem call_X_lay {D : va_G} {ct : Nat → ClassId} {a : XA} {ρ : Option Nat} {st : XS} {a1 : Int32} {a2 : Int32} {a3 : Int32} {z : (XS × Int32)} (hfl : l.stackTraces = false) (S : CallFix p m c cc nL s args lw_all own) (hl : lv_has ls nL lv) (hE : gEX s) (hK : va_K D clA (tysG ct) s) (hH : GH D A (xAs a) H0 (WX ct a ρ st) H locs) (hZ : vx_Zq Bundle.tN "UNASSIGNED_STACK" Bundle.steD (gA (xAs a) H.size) s H ∧ vx_Zq Bundle.tN "SUPPRESSED_SENTINEL" Bundle.listD (gA (xAs a) H.size) s H) (hlk : Cond.methodLink own idx yX0_lay ∈ lw_all) (hv : X_lay st a1 a2 a3 = some z) (hR : 12 ≤ R.frames ∧ 10424 ≤ R.locals) (hsum : (rest.map fun v => v.category).sum ≤ 8) (hdg : decode cc pc = .ok (.invokevirtual idx, 3)) (hf : cells + 3 ≤ R.cells ∧ slots + 222 ≤ R.slots)
    (k : ∀ (H1 : Heap) (locs1 : List Loc), GH D A (xAs a) H0 (WX ct a ρ z.1) H1 locs1 → W p l e R s m args below meth c H1 locs1 (cells + 3) (slots + 222) Q (F0 m (pc + 3) ls (.int z.2 :: rest))) : W p l e R s m args below meth c H locs cells slots Q (F0 m pc ls (.int a3 :: .int a2 :: .int a1 :: .ref (ah a 0) :: rest)) :=
  gy_calli (av := [.int a1, .int a2, .int a3]) S hl hE hK hH hZ (met_X_lay l hfl D ct a ρ H.size st a1 a2 a3 z hv) (lw_V hlk q293 q294 q69 q295) rfl rfl ⟨rfl, by decide, by decide, by show (parseMethodDescriptor yX0_lay.desc).map (fun d => d.parameters.length) = some 3; decide +kernel⟩ hR (x_recv hK hH) (fun _ h => Or.inl h) rfl hsum hdg hf k
end CR_X_lay
/-! CapCouncil.mean (I)I -/
def X_mean_L27 (k53 : XS → Int64 → Option (XS × Int32)) (a1 : Int32) : Nat → XS → Int64 → Nat → Int32 → Int32 → Option (XS × Int32)
  | 0, _, _, _, _, _ => none
  | n + 1, st, x2, j4, x5, x6 =>
    if x5 ≤ x6 then
      (k53 st x2)
    else
      (if (xr st j4).isSome = true then
        ((xrl st j4 x6).bind fun v12 =>
        bs_let (x2 + (v12.toInt64)) fun w13 =>
        bs_let (x6 + (1 : Int32)) fun w14 =>
        X_mean_L27 k53 a1 n st w13 j4 x5 w14)
      else
        ((X_found st (1 : Int32)).bind fun q11 =>
        some (q11.1, q11.2)))
def X_mean_J53 (a1 : Int32) (st : XS) (x2 : Int64) : Option (XS × Int32) :=
  (bs_ix 6 a1).bind fun v15 =>
  if (xr st v15).isSome = true then
    ((xrn st v15).bind fun v19 =>
    if (v19.toInt64) = 0 then
      ((X_found st (4 : Int32)).bind fun q21 =>
      some (q21.1, q21.2))
    else
      ((X_ask st (((x2 / (v19.toInt64))).toInt32) (1 : Int32)).bind fun q22 =>
      some (q22.1, q22.2)))
  else
    ((X_found st (1 : Int32)).bind fun q18 =>
    some (q18.1, q18.2))
def X_mean (st : XS) (a1 : Int32) : Option (XS × Int32) :=
  (X_isRow a1).bind fun v1 =>
  if v1 = 0 then
    (some (st, (-1 : Int32)))
  else
    ((bs_ix 6 a1).bind fun v3 =>
    if (xr st v3).isSome = true then
      ((xrn st v3).bind fun v7 =>
      X_mean_L27 (X_mean_J53 a1) a1 bs_fu st (0 : Int64) v3 v7 (0 : Int32))
    else
      ((X_found st (1 : Int32)).bind fun q6 =>
      some (q6.1, q6.2)))
def rm_X_mean : Room := { frames := 9, cells := 3, slots := 19, locals := 10320 }
set_option maxHeartbeats 4000000 in
set_option maxRecDepth 100000 in
theorem met_X_mean (l : Launch) (hfl : l.stackTraces = false) (D : va_G) (ct : Nat → ClassId) (a : XA) (ρ : Option Nat) (sz : Nat) (st : XS) (a1 : Int32) (z : (XS × Int32)) (hd : X_mean st a1 = some z) : vx_Met l yX0_mean (wsW_ yX0_mean cX0_mean 8 (some .int) [(9, 69, 70, 98), (9, 69, 77, 110)]) rm_X_mean (GPreX D ct (xAs a) (WX ct a ρ st) sz [.ref (ah a 0), .int a1]) (GQi D (xAs a) (xAs a) (WX ct a ρ z.1) sz z.2) XNo 3 19 (gA (xAs a) sz) := by
  refine gx_met (cc := cX0_mean) (maxL := 8) (ret := (some .int)) (by decide) (Nat.le_of_ble_eq_true rfl) ?_
  intro p e U m args below meth c ls S hr hlk hK hH hE hZ hsz htb hl
  subst hsz
  have S : CallFix p m c cX0_mean 8 U args lw_all RX0 := S
  have hx := S.1
  have hb := S.2.1
  have hl : lv_has ls 8 [(0, .ref (ah a 0)), (1, .int a1)] := hl
  have h53 : ∀ (st : XS) (x2 : Int64) (H : Heap) (locs : List Loc) (ls : Array Slot), GH D (gA (xAs a) U.heap.size) (xAs a) U.heap (WX ct a ρ st) H locs → lv_has ls 8 [(0, .ref (ah a 0)), (1, .int a1), (2, .long x2)] → X_mean_J53 a1 st x2 = some z → W p l e rm_X_mean U m args below meth c H locs 0 0 (vx_MQ below (GQi D (xAs a) (xAs a) (WX ct a ρ z.1) U.heap.size z.2) XNo args U 3 19 (gA (xAs a) U.heap.size)) (F0 m 53 ls []) := by
    intro st x2 H locs ls hH hl hd
    unfold X_mean_J53 at hd
    refine lv_aload_n (pc := 53) hx hb dX0_mean_53 rfl (lv_at hl 0 rfl) ?_
    refine lv_lload_n (pc := 54) hx hb dX0_mean_54 rfl (lv_at hl 2 rfl) ?_
    refine lv_aload_n (pc := 55) hx hb dX0_mean_55 rfl (lv_at hl 0 rfl) ?_
    refine xg_rows (pc := 56) S hK hH dX0_mean_56 ?_
    refine lv_iload_n (pc := 59) hx hb dX0_mean_59 rfl (lv_at hl 1 rfl) ?_
    obtain ⟨v15, hv15, hd⟩ := bs_bd hd
    refine xq_rows (pc := 60) S hK hH hv15 dX0_mean_60 ?_
    by_cases c16 : (xr st v15).isSome = true
    · have hd := if_t c16 hd
      obtain ⟨v19, hv19, hd⟩ := bs_bd hd
      refine xr_len (pc := 61) (j := v15) S hK hH (Nat.lt_of_lt_of_le (bs_ix_lt hv15) (by decide)) hv19 dX0_mean_61 ?_
      refine lv_i2l (pc := 62) hx hb dX0_mean_62 rfl ?_
      by_cases c20 : (v19.toInt64) = 0
      · have hd := if_t c20 hd
        refine vx_ldivZ (pc := 63) hx hb c20 dX0_mean_63 ?_
        refine cx_msg (N := "java/lang/ArithmeticException") (hat_ARITH S.2.2.2.2 hE) hgd_ARITH (by decide) (by decide) (by decide) (by decide) (by decide) (by decide) (nb := 9) (by decide +kernel) (by decide) (hE.1 _ (List.mem_of_getElem? (i := 13) rfl)) S hfl hlk hl hZ hH ⟨Nat.le_of_ble_eq_true rfl, Nat.le_of_ble_eq_true rfl⟩ (Nat.le_of_ble_eq_true rfl) ⟨Nat.le_of_ble_eq_true rfl, Nat.le_of_ble_eq_true rfl⟩ [⟨9, 69, 70, 98⟩] ⟨9, 69, 77, 110⟩ [] (htb.trans rfl) (List.forall_mem_cons.mpr ⟨Or.inr ⟨by decide, "java/lang/NullPointerException", S.2.2.2.2 _ q300, hE.2.1 _ (List.mem_of_getElem? (i := 1) rfl)⟩, fun z h => by cases h⟩) (by decide) (by decide) q365 (fun H q9 hH => ?_)
        refine lv_astore_n (pc := 77) (lv' := [(2, .ref q9), (0, .ref (ah a 0)), (1, .int a1)]) hx hb dX0_mean_77 rfl hl (by decide) rfl (fun ls hl => ?_)
        refine lv_aload_n (pc := 78) hx hb dX0_mean_78 rfl (lv_at hl 1 rfl) ?_
        refine lv_iconst (v := (4 : Int32)) (pc := 79) hx hb dX0_mean_79 (by decide) ?_
        obtain ⟨q21, hq21, hd⟩ := bs_bd hd
        refine call_X_found (pc := 80) S hl hE hK hH q288 hq21 ⟨Nat.le_of_ble_eq_true rfl, Nat.le_of_ble_eq_true rfl⟩ (Nat.le_of_ble_eq_true rfl) dX0_mean_80 ⟨Nat.le_of_ble_eq_true rfl, Nat.le_of_ble_eq_true rfl⟩ (fun H locs hH => ?_)
        refine vx_ret ?_
        refine W.widen (k := 3) (n := 19) (Nat.le_of_ble_eq_true rfl) (Nat.le_of_ble_eq_true rfl) ?_
        exact g_iret (WX ct a ρ) hd S hr hlk hH dX0_mean_83
      · have hd := if_n c20 hd
        refine lv_ldiv (pc := 63) hx hb dX0_mean_63 c20 ?_
        refine lv_l2i (pc := 64) hx hb dX0_mean_64 rfl ?_
        refine lv_iconst (v := (1 : Int32)) (pc := 65) hx hb dX0_mean_65 (by decide) ?_
        obtain ⟨q22, hq22, hd⟩ := bs_bd hd
        refine call_X_ask (pc := 66) S hl hE hK hH q344 hq22 ⟨Nat.le_of_ble_eq_true rfl, Nat.le_of_ble_eq_true rfl⟩ (Nat.le_of_ble_eq_true rfl) dX0_mean_66 ⟨Nat.le_of_ble_eq_true rfl, Nat.le_of_ble_eq_true rfl⟩ (fun H locs hH => ?_)
        refine vx_ret ?_
        refine W.widen (k := 3) (n := 19) (Nat.le_of_ble_eq_true rfl) (Nat.le_of_ble_eq_true rfl) ?_
        exact g_iret (WX ct a ρ) hd S hr hlk hH dX0_mean_69
    · have hd := if_n c16 hd
      refine xr_lenN (pc := 61) (j := v15) S hH (Nat.lt_of_lt_of_le (bs_ix_lt hv15) (by decide)) c16 dX0_mean_61 ?_
      refine cx_npe S hfl hlk hl hE hZ hH ⟨Nat.le_of_ble_eq_true rfl, Nat.le_of_ble_eq_true rfl⟩ (Nat.le_of_ble_eq_true rfl) ⟨Nat.le_of_ble_eq_true rfl, Nat.le_of_ble_eq_true rfl⟩ [] ⟨9, 69, 70, 98⟩ [⟨9, 69, 77, 110⟩] (htb.trans rfl) (fun z h => by cases h) (by decide) (by decide) q300 (fun H q9 hH => ?_)
      refine lv_astore_n (pc := 70) (lv' := [(2, .ref q9), (0, .ref (ah a 0)), (1, .int a1)]) hx hb dX0_mean_70 rfl hl (by decide) rfl (fun ls hl => ?_)
      refine lv_aload_n (pc := 71) hx hb dX0_mean_71 rfl (lv_at hl 1 rfl) ?_
      refine lv_iconst (v := (1 : Int32)) (pc := 72) hx hb dX0_mean_72 (by decide) ?_
      obtain ⟨q18, hq18, hd⟩ := bs_bd hd
      refine call_X_found (pc := 73) S hl hE hK hH q288 hq18 ⟨Nat.le_of_ble_eq_true rfl, Nat.le_of_ble_eq_true rfl⟩ (Nat.le_of_ble_eq_true rfl) dX0_mean_73 ⟨Nat.le_of_ble_eq_true rfl, Nat.le_of_ble_eq_true rfl⟩ (fun H locs hH => ?_)
      refine vx_ret ?_
      refine W.widen (k := 3) (n := 19) (Nat.le_of_ble_eq_true rfl) (Nat.le_of_ble_eq_true rfl) ?_
      exact g_iret (WX ct a ρ) hd S hr hlk hH dX0_mean_76
  have h27 : ∀ (n27 : Nat) (st : XS) (x2 : Int64) (j4 : Nat) (hj4 : j4 < 6) (x5 : Int32) (x6 : Int32) (H : Heap) (locs : List Loc) (ls : Array Slot), GH D (gA (xAs a) U.heap.size) (xAs a) U.heap (WX ct a ρ st) H locs → lv_has ls 8 [(0, .ref (ah a 0)), (1, .int a1), (2, .long x2), (4, va_rf (ar a j4)), (5, .int x5), (6, .int x6)] → X_mean_L27 (X_mean_J53 a1) a1 n27 st x2 j4 x5 x6 = some z → W p l e rm_X_mean U m args below meth c H locs 0 0 (vx_MQ below (GQi D (xAs a) (xAs a) (WX ct a ρ z.1) U.heap.size z.2) XNo args U 3 19 (gA (xAs a) U.heap.size)) (F0 m 27 ls []) := by
    intro n27
    induction n27 with
    | zero =>
      intro st x2 j4 hj4 x5 x6 H locs ls hH hl hd
      rw [X_mean_L27] at hd
      cases hd
    | succ n27 ih27 =>
      intro st x2 j4 hj4 x5 x6 H locs ls hH hl hd
      rw [X_mean_L27] at hd
      refine lv_iload (pc := 27) hx hb dX0_mean_27 (lv_at hl 5 rfl) ?_
      refine lv_iload (pc := 29) hx hb dX0_mean_29 (lv_at hl 4 rfl) ?_
      refine lv_icmp_ge (pc := 31) (tgt := 53) hx hb dX0_mean_31 (by decide) (fun c8 => ?_) (fun c8 => ?_)
      · have hd := if_t c8 hd
        exact h53 st x2 _ _ _ hH (lv_sub hl [0, 1, 2] rfl) hd
      · have hd := if_n c8 hd
        refine lv_aloadO (pc := 34) hx hb dX0_mean_34 (lv_at hl 3 rfl) ?_
        refine lv_iload (pc := 36) hx hb dX0_mean_36 (lv_at hl 5 rfl) ?_
        by_cases c9 : (xr st j4).isSome = true
        · have hd := if_t c9 hd
          obtain ⟨v12, hv12, hd⟩ := bs_bd hd
          refine xr_ild (pc := 38) S hK hH hj4 hv12 dX0_mean_38 ?_
          refine lv_istore (pc := 39) (lv' := [(7, .int v12), (0, .ref (ah a 0)), (1, .int a1), (2, .long x2), (4, va_rf (ar a j4)), (5, .int x5), (6, .int x6)]) hx hb dX0_mean_39 hl (by decide) rfl (fun ls hl => ?_)
          refine lv_lload_n (pc := 41) hx hb dX0_mean_41 rfl (lv_at hl 3 rfl) ?_
          refine lv_iload (pc := 42) hx hb dX0_mean_42 (lv_at hl 0 rfl) ?_
          refine lv_i2l (pc := 44) hx hb dX0_mean_44 rfl ?_
          refine lv_ladd (pc := 45) hx hb dX0_mean_45 ?_
          obtain ⟨w13, ew13, hd⟩ := bs_let_spec hd
          refine lv_topEl (pc := 46) ew13 ?_
          refine lv_lstore_n (pc := 46) (lv' := [(2, .long w13), (7, .int v12), (0, .ref (ah a 0)), (1, .int a1), (4, va_rf (ar a j4)), (5, .int x5), (6, .int x6)]) hx hb dX0_mean_46 rfl hl (by decide) rfl (fun ls hl => ?_)
          obtain ⟨w14, ew14, hd⟩ := bs_let_spec hd
          refine lv_iinc (pc := 47) (v := w14) (lv' := [(6, .int w14), (2, .long w13), (7, .int v12), (0, .ref (ah a 0)), (1, .int a1), (4, va_rf (ar a j4)), (5, .int x5)]) hx hb dX0_mean_47 hl (k := 6) rfl (by rw [ew14]; rfl) (by decide) rfl (fun ls hl => ?_)
          refine lv_goto (pc := 50) (tgt := 27) hx hb dX0_mean_50 (by decide) ?_
          exact ih27 st w13 j4 hj4 x5 w14 _ _ _ hH (lv_sub hl [3, 4, 1, 5, 6, 0] rfl) hd
        · have hd := if_n c9 hd
          refine xr_ildN (pc := 38) (j := j4) S hH (Nat.lt_of_lt_of_le hj4 (by decide)) c9 dX0_mean_38 ?_
          refine cx_npe S hfl hlk hl hE hZ hH ⟨Nat.le_of_ble_eq_true rfl, Nat.le_of_ble_eq_true rfl⟩ (Nat.le_of_ble_eq_true rfl) ⟨Nat.le_of_ble_eq_true rfl, Nat.le_of_ble_eq_true rfl⟩ [] ⟨9, 69, 70, 98⟩ [⟨9, 69, 77, 110⟩] (htb.trans rfl) (fun z h => by cases h) (by decide) (by decide) q300 (fun H q9 hH => ?_)
          refine lv_astore_n (pc := 70) (lv' := [(2, .ref q9), (0, .ref (ah a 0)), (1, .int a1), (4, va_rf (ar a j4)), (5, .int x5), (6, .int x6)]) hx hb dX0_mean_70 rfl hl (by decide) rfl (fun ls hl => ?_)
          refine lv_aload_n (pc := 71) hx hb dX0_mean_71 rfl (lv_at hl 1 rfl) ?_
          refine lv_iconst (v := (1 : Int32)) (pc := 72) hx hb dX0_mean_72 (by decide) ?_
          obtain ⟨q11, hq11, hd⟩ := bs_bd hd
          refine call_X_found (pc := 73) S hl hE hK hH q288 hq11 ⟨Nat.le_of_ble_eq_true rfl, Nat.le_of_ble_eq_true rfl⟩ (Nat.le_of_ble_eq_true rfl) dX0_mean_73 ⟨Nat.le_of_ble_eq_true rfl, Nat.le_of_ble_eq_true rfl⟩ (fun H locs hH => ?_)
          refine vx_ret ?_
          refine W.widen (k := 3) (n := 19) (Nat.le_of_ble_eq_true rfl) (Nat.le_of_ble_eq_true rfl) ?_
          exact g_iret (WX ct a ρ) hd S hr hlk hH dX0_mean_76
  unfold X_mean at hd
  refine lv_iload_n (pc := 0) hx hb dX0_mean_0 rfl (lv_at hl 1 rfl) ?_
  obtain ⟨v1, hv1, hd⟩ := bs_bd hd
  refine call_X_isRow (pc := 1) S hl q282 hv1 ⟨Nat.le_of_ble_eq_true rfl, Nat.le_of_ble_eq_true rfl⟩ (Nat.le_of_ble_eq_true rfl) dX0_mean_1 ⟨Nat.le_of_ble_eq_true rfl, Nat.le_of_ble_eq_true rfl⟩ ?_
  refine lv_if_ne (pc := 4) (tgt := 9) hx hb dX0_mean_4 (by decide) (fun c2 => ?_) (fun c2 => ?_)
  · have hd := if_n c2 hd
    refine lv_lconst (v := (0 : Int64)) (pc := 9) hx hb dX0_mean_9 (by decide) ?_
    refine lv_lstore_n (pc := 10) (lv' := [(2, .long (0 : Int64)), (0, .ref (ah a 0)), (1, .int a1)]) hx hb dX0_mean_10 rfl hl (by decide) rfl (fun ls hl => ?_)
    refine lv_aload_n (pc := 11) hx hb dX0_mean_11 rfl (lv_at hl 1 rfl) ?_
    refine xg_rows (pc := 12) S hK hH dX0_mean_12 ?_
    refine lv_iload_n (pc := 15) hx hb dX0_mean_15 rfl (lv_at hl 2 rfl) ?_
    obtain ⟨v3, hv3, hd⟩ := bs_bd hd
    refine xq_rows (pc := 16) S hK hH hv3 dX0_mean_16 ?_
    refine lv_astoreO (pc := 17) (lv' := [(4, va_rf (ar a v3)), (2, .long (0 : Int64)), (0, .ref (ah a 0)), (1, .int a1)]) hx hb dX0_mean_17 hl (by decide) rfl (fun ls hl => ?_)
    refine lv_aloadO (pc := 19) hx hb dX0_mean_19 (lv_at hl 0 rfl) ?_
    by_cases c4 : (xr st v3).isSome = true
    · have hd := if_t c4 hd
      obtain ⟨v7, hv7, hd⟩ := bs_bd hd
      refine xr_len (pc := 21) (j := v3) S hK hH (Nat.lt_of_lt_of_le (bs_ix_lt hv3) (by decide)) hv7 dX0_mean_21 ?_
      refine lv_istore (pc := 22) (i := 5) (lv' := [(5, .int v7), (4, va_rf (ar a v3)), (2, .long (0 : Int64)), (0, .ref (ah a 0)), (1, .int a1)]) hx hb dX0_mean_22 hl (by decide) (by simp [va_rf_cat, vc_int, vc_ref, vc_long]) (fun ls hl => ?_)
      refine lv_iconst (v := (0 : Int32)) (pc := 24) hx hb dX0_mean_24 (by decide) ?_
      refine lv_istore (pc := 25) (lv' := [(6, .int (0 : Int32)), (5, .int v7), (4, va_rf (ar a v3)), (2, .long (0 : Int64)), (0, .ref (ah a 0)), (1, .int a1)]) hx hb dX0_mean_25 hl (by decide) rfl (fun ls hl => ?_)
      exact h27 bs_fu st (0 : Int64) v3 (bs_ix_lt hv3) v7 (0 : Int32) _ _ _ hH (lv_sub hl [4, 5, 3, 2, 1, 0] rfl) hd
    · have hd := if_n c4 hd
      refine xr_lenN (pc := 21) (j := v3) S hH (Nat.lt_of_lt_of_le (bs_ix_lt hv3) (by decide)) c4 dX0_mean_21 ?_
      refine cx_npe S hfl hlk hl hE hZ hH ⟨Nat.le_of_ble_eq_true rfl, Nat.le_of_ble_eq_true rfl⟩ (Nat.le_of_ble_eq_true rfl) ⟨Nat.le_of_ble_eq_true rfl, Nat.le_of_ble_eq_true rfl⟩ [] ⟨9, 69, 70, 98⟩ [⟨9, 69, 77, 110⟩] (htb.trans rfl) (fun z h => by cases h) (by decide) (by decide) q300 (fun H q9 hH => ?_)
      refine lv_astore_n (pc := 70) (lv' := [(2, .ref q9), (4, va_rf (ar a v3)), (0, .ref (ah a 0)), (1, .int a1)]) hx hb dX0_mean_70 rfl hl (by decide) rfl (fun ls hl => ?_)
      refine lv_aload_n (pc := 71) hx hb dX0_mean_71 rfl (lv_at hl 2 rfl) ?_
      refine lv_iconst (v := (1 : Int32)) (pc := 72) hx hb dX0_mean_72 (by decide) ?_
      obtain ⟨q6, hq6, hd⟩ := bs_bd hd
      refine call_X_found (pc := 73) S hl hE hK hH q288 hq6 ⟨Nat.le_of_ble_eq_true rfl, Nat.le_of_ble_eq_true rfl⟩ (Nat.le_of_ble_eq_true rfl) dX0_mean_73 ⟨Nat.le_of_ble_eq_true rfl, Nat.le_of_ble_eq_true rfl⟩ (fun H locs hH => ?_)
      refine vx_ret ?_
      refine W.widen (k := 3) (n := 19) (Nat.le_of_ble_eq_true rfl) (Nat.le_of_ble_eq_true rfl) ?_
      exact g_iret (WX ct a ρ) hd S hr hlk hH dX0_mean_76
  · have hd := if_t c2 hd
    refine lv_iconst (v := (-1 : Int32)) (pc := 7) hx hb dX0_mean_7 (by decide) ?_
    refine vx_ret ?_
    refine W.widen (k := 3) (n := 19) (Nat.le_of_ble_eq_true rfl) (Nat.le_of_ble_eq_true rfl) ?_
    exact g_iret (WX ct a ρ) hd S hr hlk hH dX0_mean_8
section CR_X_mean
variable {p : Program} {l : Launch} {e : Env} {R : Room} {s : State} {m : MethodId} {args : Array Value} {below : List Frame} {meth : Method} {c : Code} {H : Heap} {locs : List Loc} {cells slots : Nat} {Q : State → Prop}
variable {cc : ByteArray} {pc nL idx : Nat} {ls : Array Slot} {rest : List Value} {lv : List (Nat × Value)} {A : Nat → Prop} {H0 : Heap} {own : String}
theorem call_X_mean {D : va_G} {ct : Nat → ClassId} {a : XA} {ρ : Option Nat} {st : XS} {a1 : Int32} {z : (XS × Int32)} (hfl : l.stackTraces = false) (S : CallFix p m c cc nL s args lw_all own) (hl : lv_has ls nL lv) (hE : gEX s) (hK : va_K D clA (tysG ct) s) (hH : GH D A (xAs a) H0 (WX ct a ρ st) H locs) (hZ : vx_Zq Bundle.tN "UNASSIGNED_STACK" Bundle.steD (gA (xAs a) H.size) s H ∧ vx_Zq Bundle.tN "SUPPRESSED_SENTINEL" Bundle.listD (gA (xAs a) H.size) s H) (hlk : Cond.methodLink own idx yX0_mean ∈ lw_all) (hv : X_mean st a1 = some z) (hR : 10 ≤ R.frames ∧ 10347 ≤ R.locals) (hsum : (rest.map fun v => v.category).sum ≤ 8) (hdg : decode cc pc = .ok (.invokevirtual idx, 3)) (hf : cells + 3 ≤ R.cells ∧ slots + 19 ≤ R.slots)
    (k : ∀ (H1 : Heap) (locs1 : List Loc), GH D A (xAs a) H0 (WX ct a ρ z.1) H1 locs1 → W p l e R s m args below meth c H1 locs1 (cells + 3) (slots + 19) Q (F0 m (pc + 3) ls (.int z.2 :: rest))) : W p l e R s m args below meth c H locs cells slots Q (F0 m pc ls (.int a1 :: .ref (ah a 0) :: rest)) :=
  gx_calli (av := [.int a1]) S hl hE hK hH hZ (met_X_mean l hfl D ct a ρ H.size st a1 z hv) (lw_VW hlk q362 q363 q69 q364) rfl rfl ⟨rfl, by decide, by decide, by show (parseMethodDescriptor yX0_mean.desc).map (fun d => d.parameters.length) = some 1; decide +kernel⟩ hR (x_recv hK hH) (fun _ h => Or.inl h) rfl hsum hdg hf k
end CR_X_mean
