/-! tear, row, text -/
set_option maxRecDepth 100000
def fillN (k : Nat) : Nat → Int32 := fun j => if j < k then 32 else 0
theorem fillN_0 : fillN 0 = fun _ => 0 := by
  funext j
  exact if_neg (Nat.not_lt_zero j)
theorem fillN_1 (k : Nat) : upd (fillN k) k (vp_nar .byte 32) = fillN (k + 1) := by
  funext j
  unfold upd fillN
  by_cases h : j = k
  · subst h
    rw [if_pos rfl, if_pos (Nat.lt_succ_self _)]
    decide +kernel
  · rw [if_neg h]
    by_cases h2 : j < k
    · rw [if_pos h2, if_pos (by omega)]
    · rw [if_neg h2, if_neg (by omega)]
section XT
variable {p : Program} {l : Launch} {e : Env} {R : Room} {s : State} {m : MethodId} {args : Array Value} {below : List Frame} {meth : Method} {c : Code} {H : Heap} {locs : List Loc} {cells slots : Nat} {Q : State → Prop}
variable {ls : Array Slot} {D : va_G} {ct : Nat → ClassId} {A : Nat → Prop} {H0 : Heap} {a : XA} {st st1 : XS} {a1 a2 : Int32} {j : Nat}
theorem xg_textsN {new : va_W} {pc : Nat} {cc : ByteArray} {nL : Nat} {rest : List Value} (S : CallFix p m c cc nL s args lw_all RX0) (hK : va_K D clA (tysG ct) s) (hH : GN D A (xAs a) H0 (WX ct a none st) new H locs) (hdg : decode cc pc = .ok (.getfield 34, 3)) (k : W p l e R s m args below meth c H locs cells slots Q (F0 m (pc + 3) ls (.ref (ah a 3) :: rest))) : W p l e R s m args below meth c H locs cells slots Q (F0 m pc ls (.ref (ah a 0) :: rest)) :=
  va_get (D := D) (cl := clA) (ci := 0) (v := .ref (ah a 3)) (C := RX0) (T := TX0) (N := 27) S.1 S.2.1 S.2.2.2.2 in_X0 S.2.2.2.1 hK hH.1 0 rfl rfl 6 (by decide) (S.2.2.2.2 _ q113) (fun _ h9 => h9) rfl hdg k
theorem xa_textM (S : CallFix p m c cX0_text 5 s args lw_all RX0) (hE : gEX s) (hK : va_K D clA (tysG ct) s) (hH : GH D A (xAs a) H0 (WX ct a none st) H locs) (hl : lv_has ls 5 [(0, .ref (ah a 0)), (1, .int a1), (2, .int a2)]) (hn : ¬ a2 < 0) (hN : a2.toNatClampNeg ≤ 60) (hv : bs_ix 4 a1 = some j) (he : st1 = sxr st (6 + j) (some (a2.toNatClampNeg, fillN a2.toNatClampNeg))) (hc : cells + 1 ≤ R.cells) (hs : slots + 60 ≤ R.slots)
    (k : ∀ (b : XB) (H1 : Heap) (locs1 : List Loc) (ls1 : Array Slot), lv_has ls1 5 [(0, .ref (ah a 0)), (1, .int a1), (2, .int a2)] → GH D A (xAs (a.1, b)) H0 (WX ct (a.1, b) none st1) H1 locs1 → W p l e R s m args below meth c H1 locs1 (cells + 1) (slots + a2.toNatClampNeg) Q (F0 m 47 ls1 [])) : W p l e R s m args below meth c H locs cells slots Q (F0 m 16 ls [.int a2]) := by
  have hx := S.1
  have hb := S.2.1
  generalize hNN : a2.toNatClampNeg = N at *
  have ea : a2 = nI N := by
    obtain ⟨i, hi, e⟩ := nI_of hn
    rw [e, nI_clamp hi] at hNN
    rw [e, hNN]
  refine gn_newB (pc := 16) S q277 hK hH hn hNN (by omega) hc (by omega) dX0_text_16 (fun q H hH => ?_)
  refine lv_astore_n (pc := 18) (lv' := [(3, .ref q), (0, .ref (ah a 0)), (1, .int a1), (2, .int a2)]) hx hb dX0_text_18 rfl hl (by decide) rfl (fun ls hl => ?_)
  refine lv_iconst (v := (0 : Int32)) (pc := 19) hx hb dX0_text_19 (by decide) ?_
  refine lv_istore (pc := 20) (lv' := [(4, .int (0 : Int32)), (3, .ref q), (0, .ref (ah a 0)), (1, .int a1), (2, .int a2)]) hx hb dX0_text_20 hl (by decide) rfl (fun ls hl => ?_)
  have key : ∀ (d k0 : Nat), k0 + d = N → ∀ (H : Heap) (locs : List Loc) (ls : Array Slot), GN D A (xAs a) H0 (WX ct a none st) [(q, .inl (ct 2, N, .inl (fillN k0)))] H locs → lv_has ls 5 [(4, .int (nI k0)), (3, .ref q), (0, .ref (ah a 0)), (1, .int a1), (2, .int a2)] → W p l e R s m args below meth c H locs (cells + 1) (slots + N) Q (F0 m 22 ls []) := by
    intro d
    induction d with
    | zero =>
      intro k0 hk H locs ls hH hl
      have hk : k0 = N := hk
      subst hk
      refine lv_iload (pc := 22) hx hb dX0_text_22 (lv_at hl 0 rfl) ?_
      refine lv_iload_n (pc := 24) hx hb dX0_text_24 rfl (lv_at hl 4 rfl) ?_
      refine lv_icmp_ge (pc := 25) (tgt := 40) hx hb dX0_text_25 (by decide) (fun _ => ?_) (fun c9 => absurd (by rw [ea]; exact Int32.le_refl _) c9)
      refine lv_aload_n (pc := 40) hx hb dX0_text_40 rfl (lv_at hl 2 rfl) ?_
      have hl3 : lv_has ls 5 [(0, .ref (ah a 0)), (1, .int a1), (2, .int a2), (3, .ref q)] := lv_sub hl [2, 3, 4, 1] rfl
      refine xg_textsN (pc := 41) S hK hH dX0_text_41 ?_
      refine lv_iload_n (pc := 44) hx hb dX0_text_44 rfl (lv_at hl 3 rfl) ?_
      refine lv_aload_n (pc := 45) hx hb dX0_text_45 rfl (lv_at hl 1 rfl) ?_
      exact xa_text (pc := 46) S hE hK hH hv he dX0_text_46 (fun b H locs hH => k b H locs ls (lv_sub hl [2, 3, 4] rfl) hH)
    | succ d ih =>
      intro k0 hk H locs ls hH hl
      have h31 : N < 2 ^ 31 := by omega
      refine lv_iload (pc := 22) hx hb dX0_text_22 (lv_at hl 0 rfl) ?_
      refine lv_iload_n (pc := 24) hx hb dX0_text_24 rfl (lv_at hl 4 rfl) ?_
      refine lv_icmp_ge (pc := 25) (tgt := 40) hx hb dX0_text_25 (by decide) (fun c9 => absurd (by rw [ea] at c9; exact c9) (nI_ge (a := k0) (b := N) (by omega) h31)) (fun _ => ?_)
      refine lv_aload_n (pc := 28) hx hb dX0_text_28 rfl (lv_at hl 1 rfl) ?_
      refine lv_iload (pc := 29) hx hb dX0_text_29 (lv_at hl 0 rfl) ?_
      refine lv_bipush (v := (32 : Int32)) (pc := 31) hx hb dX0_text_31 (by decide) ?_
      obtain ⟨hP, hD, hS, hX⟩ := hH
      refine va_bast (pc := 33) (cl := clA) S.1 S.2.1 hK hP hD hS (WX ct a none st).1.length 2 (List.getElem?_concat_length) rfl (nI_in (c := k0) (N := N) (by omega) h31) dX0_text_33 (fun H locs hP hD hS => ?_)
      rw [List.set_append_right _ _ (Nat.le_refl _), Nat.sub_self, List.set_cons_zero, nI_clamp (by omega), fillN_1] at hP hD
      refine lv_iinc (pc := 34) (v := nI (k0 + 1)) (lv' := [(4, .int (nI (k0 + 1))), (3, .ref q), (0, .ref (ah a 0)), (1, .int a1), (2, .int a2)]) hx hb dX0_text_34 hl (k := 0) rfl (nI_succ k0).symm (by decide) rfl (fun ls hl => ?_)
      refine lv_goto (pc := 37) (tgt := 22) hx hb dX0_text_37 (by decide) ?_
      exact ih (k0 + 1) (by omega) H locs ls ⟨hP, hD, hS, hX⟩ hl
  exact key N 0 (by omega) H locs ls (by rw [fillN_0]; exact hH) (by rw [nI_0]; exact hl)
end XT

/-! CapCouncil.tear (I)I -/
def X_tear (st : XS) (a1 : Int32) : Option (XS × Int32) :=
  (X_isRow a1).bind fun v1 =>
  if v1 = 0 then
    (some (st, (-1 : Int32)))
  else
    ((bs_ix 6 a1).bind fun v3 =>
    if (xr st v3).isSome = true then
      ((bs_ix 6 a1).bind fun v5 =>
      bs_let (sxr st v5 none) fun s6 =>
      some (s6, (1 : Int32)))
    else
      ((X_found st (1 : Int32)).bind fun q7 =>
      some (q7.1, q7.2)))
def rm_X_tear : Room := { frames := 2, cells := 0, slots := 0, locals := 42 }
set_option maxHeartbeats 4000000 in
set_option maxRecDepth 100000 in
theorem met_X_tear (l : Launch) (D : va_G) (ct : Nat → ClassId) (a : XA) (sz : Nat) (st : XS) (a1 : Int32) (z : (XS × Int32)) (hd : X_tear st a1 = some z) : Met l yX0_tear (ws_ yX0_tear cX0_tear 2 (some .int)) rm_X_tear (GPre gEX D ct (xAs a) (WX ct a none st) sz [.ref (ah a 0), .int a1]) (GQx D ct a z.1 sz z.2) 0 0 (gA (xAs a) sz) := by
  refine g_met (cc := cX0_tear) (maxL := 2) (ret := (some .int)) (by decide) (Nat.le_of_ble_eq_true rfl) ?_
  intro p e U m args below meth c ls S hr hlk hK hH hE hsz hl
  have S : CallFix p m c cX0_tear 2 U args lw_all RX0 := S
  have hx := S.1
  have hb := S.2.1
  have hl : lv_has ls 2 [(0, .ref (ah a 0)), (1, .int a1)] := hl
  unfold X_tear at hd
  refine lv_iload_n (pc := 0) hx hb dX0_tear_0 rfl (lv_at hl 1 rfl) ?_
  obtain ⟨v1, hv1, hd⟩ := bs_bd hd
  refine call_X_isRow (pc := 1) S hl q282 hv1 ⟨Nat.le_of_ble_eq_true rfl, Nat.le_of_ble_eq_true rfl⟩ (Nat.le_of_ble_eq_true rfl) dX0_tear_1 ⟨Nat.zero_le _, Nat.zero_le _⟩ ?_
  refine lv_if_ne (pc := 4) (tgt := 9) hx hb dX0_tear_4 (by decide) (fun c2 => ?_) (fun c2 => ?_)
  · have hd := if_n c2 hd
    refine lv_aload_n (pc := 9) hx hb dX0_tear_9 rfl (lv_at hl 0 rfl) ?_
    refine xg_rows (pc := 10) S hK hH dX0_tear_10 ?_
    refine lv_iload_n (pc := 13) hx hb dX0_tear_13 rfl (lv_at hl 1 rfl) ?_
    obtain ⟨v3, hv3, hd⟩ := bs_bd hd
    refine xq_rows (pc := 14) S hK hH hv3 dX0_tear_14 ?_
    refine lv_ifnonnullO (pc := 15) (tgt := 24) hx hb dX0_tear_15 (by decide) (fun c4 => ?_) (fun c4 => ?_)
    · have hd := if_t ((xo_r hH (Nat.lt_of_lt_of_le (bs_ix_lt hv3) (by decide))).symm.trans c4) hd
      refine lv_aload_n (pc := 24) hx hb dX0_tear_24 rfl (lv_at hl 0 rfl) ?_
      refine xg_rows (pc := 25) S hK hH dX0_tear_25 ?_
      refine lv_iload_n (pc := 28) hx hb dX0_tear_28 rfl (lv_at hl 1 rfl) ?_
      refine lv_null (pc := 29) hx hb dX0_tear_29 ?_
      obtain ⟨v5, hv5, hd⟩ := bs_bd hd
      obtain ⟨s6, es6, hd⟩ := bs_let_spec hd
      refine xa_rowN (pc := 30) S hK hH hv5 es6 dX0_tear_30 (fun b H locs hH => ?_)
      refine lv_iconst (v := (1 : Int32)) (pc := 31) hx hb dX0_tear_31 (by decide) ?_
      exact gq_iret hd S hr hlk hH dX0_tear_32
    · have hd := if_n (fun h9 => c4 ((xo_r hH (Nat.lt_of_lt_of_le (bs_ix_lt hv3) (by decide))).trans h9)) hd
      refine lv_aload_n (pc := 18) hx hb dX0_tear_18 rfl (lv_at hl 0 rfl) ?_
      refine lv_iconst (v := (1 : Int32)) (pc := 19) hx hb dX0_tear_19 (by decide) ?_
      obtain ⟨q7, hq7, hd⟩ := bs_bd hd
      refine call_X_found (pc := 20) S hl hE hK hH q288 hq7 ⟨Nat.le_of_ble_eq_true rfl, Nat.le_of_ble_eq_true rfl⟩ (Nat.le_of_ble_eq_true rfl) dX0_tear_20 ⟨Nat.zero_le _, Nat.zero_le _⟩ (fun H locs hH => ?_)
      exact gq_iret hd S hr hlk hH dX0_tear_23
  · have hd := if_t c2 hd
    refine lv_iconst (v := (-1 : Int32)) (pc := 7) hx hb dX0_tear_7 (by decide) ?_
    exact gq_iret hd S hr hlk hH dX0_tear_8
section CR_X_tear
variable {p : Program} {l : Launch} {e : Env} {R : Room} {s : State} {m : MethodId} {args : Array Value} {below : List Frame} {meth : Method} {c : Code} {H : Heap} {locs : List Loc} {cells slots : Nat} {Q : State → Prop}
variable {cc : ByteArray} {pc nL idx : Nat} {ls : Array Slot} {rest : List Value} {lv : List (Nat × Value)} {A : Nat → Prop} {H0 : Heap} {own : String}
theorem call_X_tear {D : va_G} {ct : Nat → ClassId} {a : XA} {st : XS} {a1 : Int32} {z : (XS × Int32)} (S : CallFix p m c cc nL s args lw_all own) (hl : lv_has ls nL lv) (hE : gEX s) (hK : va_K D clA (tysG ct) s) (hH : GH D A (xAs a) H0 (WX ct a none st) H locs) (hlk : Cond.methodLink own idx yX0_tear ∈ lw_all) (hv : X_tear st a1 = some z) (hR : 3 ≤ R.frames ∧ 63 ≤ R.locals) (hsum : (rest.map fun v => v.category).sum ≤ 8) (hdg : decode cc pc = .ok (.invokevirtual idx, 3)) (hf : cells + 0 ≤ R.cells ∧ slots + 0 ≤ R.slots)
    (k : ∀ (b : XB) (H1 : Heap) (locs1 : List Loc), GH D A (xAs (a.1, b)) H0 (WX ct (a.1, b) none z.1) H1 locs1 → W p l e R s m args below meth c H1 locs1 (cells + 0) (slots + 0) Q (F0 m (pc + 3) ls (.int z.2 :: rest))) : W p l e R s m args below meth c H locs cells slots Q (F0 m pc ls (.int a1 :: .ref (ah a 0) :: rest)) :=
  gq_calli (av := [.int a1]) S hl hE hK hH (met_X_tear l D ct a H.size st a1 z hv) (lw_V hlk q350 q351 q69 q352) rfl rfl ⟨rfl, by decide, by decide, by show (parseMethodDescriptor yX0_tear.desc).map (fun d => d.parameters.length) = some 1; decide +kernel⟩ hR (x_recv hK hH) rfl hsum hdg hf k
end CR_X_tear
/-! CapCouncil.row (II)I -/
def X_row (st : XS) (a1 : Int32) (a2 : Int32) : Option (XS × Int32) :=
  (X_isRow a1).bind fun v1 =>
  if v1 = 0 then
    (some (st, (-1 : Int32)))
  else
    (if a2 ≤ (40 : Int32) then
      (if a2 < 0 then
        ((X_found st (5 : Int32)).bind fun q5 =>
        some (q5.1, q5.2))
      else
        (bs_g (decide (a2.toNatClampNeg ≤ 40)) <|
        (bs_ix 6 a1).bind fun v8 =>
        bs_let (sxr st v8 (some (a2.toNatClampNeg, (fun _ => 0)))) fun s9 =>
        some (s9, a2)))
    else
      (some (st, (-1 : Int32))))
def rm_X_row : Room := { frames := 9, cells := 3, slots := 54, locals := 10320 }
set_option maxHeartbeats 4000000 in
set_option maxRecDepth 100000 in
theorem met_X_row (l : Launch) (hfl : l.stackTraces = false) (D : va_G) (ct : Nat → ClassId) (a : XA) (sz : Nat) (st : XS) (a1 : Int32) (a2 : Int32) (z : (XS × Int32)) (hd : X_row st a1 a2 = some z) : vx_Met l yX0_row (wsW_ yX0_row cX0_row 4 (some .int) [(15, 25, 26, 85)]) rm_X_row (GPreX D ct (xAs a) (WX ct a none st) sz [.ref (ah a 0), .int a1, .int a2]) (GQx D ct a z.1 sz z.2) XNo 3 54 (gA (xAs a) sz) := by
  refine gx_met (cc := cX0_row) (maxL := 4) (ret := (some .int)) (by decide) (Nat.le_of_ble_eq_true rfl) ?_
  intro p e U m args below meth c ls S hr hlk hK hH hE hZ hsz htb hl
  subst hsz
  have S : CallFix p m c cX0_row 4 U args lw_all RX0 := S
  have hx := S.1
  have hb := S.2.1
  have hl : lv_has ls 4 [(0, .ref (ah a 0)), (1, .int a1), (2, .int a2)] := hl
  unfold X_row at hd
  refine lv_iload_n (pc := 0) hx hb dX0_row_0 rfl (lv_at hl 1 rfl) ?_
  obtain ⟨v1, hv1, hd⟩ := bs_bd hd
  refine call_X_isRow (pc := 1) S hl q282 hv1 ⟨Nat.le_of_ble_eq_true rfl, Nat.le_of_ble_eq_true rfl⟩ (Nat.le_of_ble_eq_true rfl) dX0_row_1 ⟨Nat.le_of_ble_eq_true rfl, Nat.le_of_ble_eq_true rfl⟩ ?_
  refine lv_if_eq (pc := 4) (tgt := 13) hx hb dX0_row_4 (by decide) (fun c2 => ?_) (fun c2 => ?_)
  · have hd := if_t c2 hd
    refine lv_iconst (v := (-1 : Int32)) (pc := 13) hx hb dX0_row_13 (by decide) ?_
    refine vx_ret ?_
    refine W.widen (k := 3) (n := 54) (by first | exact Nat.le_of_ble_eq_true rfl | omega) (by first | exact Nat.le_of_ble_eq_true rfl | omega) ?_
    exact gq_iret hd S hr hlk hH dX0_row_14
  · have hd := if_n c2 hd
    refine lv_iload_n (pc := 7) hx hb dX0_row_7 rfl (lv_at hl 2 rfl) ?_
    refine lv_bipush (v := (40 : Int32)) (pc := 8) hx hb dX0_row_8 (by decide) ?_
    refine lv_icmp_le (pc := 10) (tgt := 15) hx hb dX0_row_10 (by decide) (fun c3 => ?_) (fun c3 => ?_)
    · have hd := if_t c3 hd
      refine lv_aload_n (pc := 15) hx hb dX0_row_15 rfl (lv_at hl 0 rfl) ?_
      refine xg_rows (pc := 16) S hK hH dX0_row_16 ?_
      refine lv_iload_n (pc := 19) hx hb dX0_row_19 rfl (lv_at hl 1 rfl) ?_
      refine lv_iload_n (pc := 20) hx hb dX0_row_20 rfl (lv_at hl 2 rfl) ?_
      by_cases c4 : a2 < 0
      · have hd := if_t c4 hd
        refine vx_newarrayZ (pc := 21) hx hb c4 dX0_row_21 (fun tx etx => ?_)
        subst etx
        refine cx_msg (N := "java/lang/NegativeArraySizeException") (hat_NASE S.2.2.2.2 hE) hgd_NASE (by decide) (by decide) (by decide) (by decide) (by decide) (negative_text_modelled c4) (negative_text_bytes _) (by decide) (hE.1 _ (List.mem_of_getElem? (i := 9) rfl)) S hfl hlk hl hZ hH ⟨Nat.le_of_ble_eq_true rfl, Nat.le_of_ble_eq_true rfl⟩ (Nat.le_of_ble_eq_true rfl) ⟨Nat.le_of_ble_eq_true rfl, Nat.le_of_ble_eq_true rfl⟩ [] ⟨15, 25, 26, 85⟩ [] (htb.trans rfl) (fun z h => by cases h) (by decide) (by decide) q196 (fun H q9 hH => ?_)
        refine lv_astore_n (pc := 26) (lv' := [(3, .ref q9), (0, .ref (ah a 0)), (1, .int a1), (2, .int a2)]) hx hb dX0_row_26 rfl hl (by decide) rfl (fun ls hl => ?_)
        refine lv_aload_n (pc := 27) hx hb dX0_row_27 rfl (lv_at hl 1 rfl) ?_
        refine lv_iconst (v := (5 : Int32)) (pc := 28) hx hb dX0_row_28 (by decide) ?_
        obtain ⟨q5, hq5, hd⟩ := bs_bd hd
        refine call_X_found (pc := 29) S hl hE hK hH q288 hq5 ⟨Nat.le_of_ble_eq_true rfl, Nat.le_of_ble_eq_true rfl⟩ (Nat.le_of_ble_eq_true rfl) dX0_row_29 ⟨Nat.le_of_ble_eq_true rfl, Nat.le_of_ble_eq_true rfl⟩ (fun H locs hH => ?_)
        refine vx_ret ?_
        refine W.widen (k := 3) (n := 54) (by first | exact Nat.le_of_ble_eq_true rfl | omega) (by first | exact Nat.le_of_ble_eq_true rfl | omega) ?_
        exact gq_iret hd S hr hlk hH dX0_row_32
      · have hd := if_n c4 hd
        obtain ⟨z6, hd⟩ := bs_g_spec hd
        have z6 := of_decide_eq_true z6
        refine gn_newI (pc := 21) S q191 hK hH c4 rfl (by omega) (Nat.le_of_ble_eq_true rfl) (by simp only [rm_X_row]; omega) dX0_row_21 (fun q7 H hH => ?_)
        obtain ⟨v8, hv8, hd⟩ := bs_bd hd
        obtain ⟨s9, es9, hd⟩ := bs_let_spec hd
        refine xa_row (pc := 23) S hE hK hH hv8 es9 dX0_row_23 (fun b H locs hH => ?_)
        refine lv_iload_n (pc := 24) hx hb dX0_row_24 rfl (lv_at hl 2 rfl) ?_
        refine vx_ret ?_
        refine W.widen (k := 3) (n := 54) (by first | exact Nat.le_of_ble_eq_true rfl | omega) (by first | exact Nat.le_of_ble_eq_true rfl | omega) ?_
        exact gq_iret hd S hr hlk hH dX0_row_25
    · have hd := if_n c3 hd
      refine lv_iconst (v := (-1 : Int32)) (pc := 13) hx hb dX0_row_13 (by decide) ?_
      refine vx_ret ?_
      refine W.widen (k := 3) (n := 54) (by first | exact Nat.le_of_ble_eq_true rfl | omega) (by first | exact Nat.le_of_ble_eq_true rfl | omega) ?_
      exact gq_iret hd S hr hlk hH dX0_row_14
section CR_X_row
variable {p : Program} {l : Launch} {e : Env} {R : Room} {s : State} {m : MethodId} {args : Array Value} {below : List Frame} {meth : Method} {c : Code} {H : Heap} {locs : List Loc} {cells slots : Nat} {Q : State → Prop}
variable {cc : ByteArray} {pc nL idx : Nat} {ls : Array Slot} {rest : List Value} {lv : List (Nat × Value)} {A : Nat → Prop} {H0 : Heap} {own : String}
theorem call_X_row {D : va_G} {ct : Nat → ClassId} {a : XA} {st : XS} {a1 : Int32} {a2 : Int32} {z : (XS × Int32)} (hfl : l.stackTraces = false) (S : CallFix p m c cc nL s args lw_all own) (hl : lv_has ls nL lv) (hE : gEX s) (hK : va_K D clA (tysG ct) s) (hH : GH D A (xAs a) H0 (WX ct a none st) H locs) (hZ : vx_Zq Bundle.tN "UNASSIGNED_STACK" Bundle.steD (gA (xAs a) H.size) s H ∧ vx_Zq Bundle.tN "SUPPRESSED_SENTINEL" Bundle.listD (gA (xAs a) H.size) s H) (hlk : Cond.methodLink own idx yX0_row ∈ lw_all) (hv : X_row st a1 a2 = some z) (hR : 10 ≤ R.frames ∧ 10343 ≤ R.locals) (hsum : (rest.map fun v => v.category).sum ≤ 8) (hdg : decode cc pc = .ok (.invokevirtual idx, 3)) (hf : cells + 3 ≤ R.cells ∧ slots + 54 ≤ R.slots)
    (k : ∀ (b : XB) (H1 : Heap) (locs1 : List Loc), GH D A (xAs (a.1, b)) H0 (WX ct (a.1, b) none z.1) H1 locs1 → W p l e R s m args below meth c H1 locs1 (cells + 3) (slots + 54) Q (F0 m (pc + 3) ls (.int z.2 :: rest))) : W p l e R s m args below meth c H locs cells slots Q (F0 m pc ls (.int a2 :: .int a1 :: .ref (ah a 0) :: rest)) :=
  gqx_calli (av := [.int a1, .int a2]) S hl hE hK hH hZ (met_X_row l hfl D ct a H.size st a1 a2 z hv) (lw_VW hlk q193 q194 q69 q195) rfl rfl ⟨rfl, by decide, by decide, by show (parseMethodDescriptor yX0_row.desc).map (fun d => d.parameters.length) = some 2; decide +kernel⟩ hR (x_recv hK hH) rfl hsum hdg hf k
end CR_X_row
/-! CapCouncil.text (II)I -/
def X_text (st : XS) (a1 : Int32) (a2 : Int32) : Option (XS × Int32) :=
  (X_isText a1).bind fun v1 =>
  if v1 = 0 then
    (some (st, (-1 : Int32)))
  else
    (if a2 ≤ (60 : Int32) then
      (if a2 < 0 then
        ((X_found st (5 : Int32)).bind fun q5 =>
        some (q5.1, q5.2))
      else
        (bs_g (decide (a2.toNatClampNeg ≤ 60)) <|
        (bs_ix 4 a1).bind fun v7 =>
        bs_let (sxr st (6 + v7) (some (a2.toNatClampNeg, fillN a2.toNatClampNeg))) fun s8 =>
        some (s8, a2)))
    else
      (some (st, (-1 : Int32))))
def rm_X_text : Room := { frames := 9, cells := 3, slots := 60, locals := 10320 }
set_option maxHeartbeats 4000000 in
set_option maxRecDepth 100000 in
theorem met_X_text (l : Launch) (hfl : l.stackTraces = false) (D : va_G) (ct : Nat → ClassId) (a : XA) (sz : Nat) (st : XS) (a1 : Int32) (a2 : Int32) (z : (XS × Int32)) (hd : X_text st a1 a2 = some z) : vx_Met l yX0_text (wsW_ yX0_text cX0_text 5 (some .int) [(15, 48, 49, 85)]) rm_X_text (GPreX D ct (xAs a) (WX ct a none st) sz [.ref (ah a 0), .int a1, .int a2]) (GQx D ct a z.1 sz z.2) XNo 3 60 (gA (xAs a) sz) := by
  refine gx_met (cc := cX0_text) (maxL := 5) (ret := (some .int)) (by decide) (Nat.le_of_ble_eq_true rfl) ?_
  intro p e U m args below meth c ls S hr hlk hK hH hE hZ hsz htb hl
  subst hsz
  have S : CallFix p m c cX0_text 5 U args lw_all RX0 := S
  have hx := S.1
  have hb := S.2.1
  have hl : lv_has ls 5 [(0, .ref (ah a 0)), (1, .int a1), (2, .int a2)] := hl
  unfold X_text at hd
  refine lv_iload_n (pc := 0) hx hb dX0_text_0 rfl (lv_at hl 1 rfl) ?_
  obtain ⟨v1, hv1, hd⟩ := bs_bd hd
  refine call_X_isText (pc := 1) S hl q383 hv1 ⟨Nat.le_of_ble_eq_true rfl, Nat.le_of_ble_eq_true rfl⟩ (Nat.le_of_ble_eq_true rfl) dX0_text_1 ⟨Nat.le_of_ble_eq_true rfl, Nat.le_of_ble_eq_true rfl⟩ ?_
  refine lv_if_eq (pc := 4) (tgt := 13) hx hb dX0_text_4 (by decide) (fun c2 => ?_) (fun c2 => ?_)
  · have hd := if_t c2 hd
    refine lv_iconst (v := (-1 : Int32)) (pc := 13) hx hb dX0_text_13 (by decide) ?_
    refine vx_ret ?_
    refine W.widen (k := 3) (n := 60) (by first | exact Nat.le_of_ble_eq_true rfl | omega) (by first | exact Nat.le_of_ble_eq_true rfl | omega) ?_
    exact gq_iret hd S hr hlk hH dX0_text_14
  · have hd := if_n c2 hd
    refine lv_iload_n (pc := 7) hx hb dX0_text_7 rfl (lv_at hl 2 rfl) ?_
    refine lv_bipush (v := (60 : Int32)) (pc := 8) hx hb dX0_text_8 (by decide) ?_
    refine lv_icmp_le (pc := 10) (tgt := 15) hx hb dX0_text_10 (by decide) (fun c3 => ?_) (fun c3 => ?_)
    · have hd := if_t c3 hd
      refine lv_iload_n (pc := 15) hx hb dX0_text_15 rfl (lv_at hl 2 rfl) ?_
      by_cases c4 : a2 < 0
      · have hd := if_t c4 hd
        refine vx_newarrayZ (pc := 16) hx hb c4 dX0_text_16 (fun tx etx => ?_)
        subst etx
        refine cx_msg (N := "java/lang/NegativeArraySizeException") (hat_NASE S.2.2.2.2 hE) hgd_NASE (by decide) (by decide) (by decide) (by decide) (by decide) (negative_text_modelled c4) (negative_text_bytes _) (by decide) (hE.1 _ (List.mem_of_getElem? (i := 9) rfl)) S hfl hlk hl hZ hH ⟨Nat.le_of_ble_eq_true rfl, Nat.le_of_ble_eq_true rfl⟩ (Nat.le_of_ble_eq_true rfl) ⟨Nat.le_of_ble_eq_true rfl, Nat.le_of_ble_eq_true rfl⟩ [] ⟨15, 48, 49, 85⟩ [] (htb.trans rfl) (fun z h => by cases h) (by decide) (by decide) q196 (fun H q9 hH => ?_)
        refine lv_astore_n (pc := 49) (lv' := [(3, .ref q9), (0, .ref (ah a 0)), (1, .int a1), (2, .int a2)]) hx hb dX0_text_49 rfl hl (by decide) rfl (fun ls hl => ?_)
        refine lv_aload_n (pc := 50) hx hb dX0_text_50 rfl (lv_at hl 1 rfl) ?_
        refine lv_iconst (v := (5 : Int32)) (pc := 51) hx hb dX0_text_51 (by decide) ?_
        obtain ⟨q5, hq5, hd⟩ := bs_bd hd
        refine call_X_found (pc := 52) S hl hE hK hH q288 hq5 ⟨Nat.le_of_ble_eq_true rfl, Nat.le_of_ble_eq_true rfl⟩ (Nat.le_of_ble_eq_true rfl) dX0_text_52 ⟨Nat.le_of_ble_eq_true rfl, Nat.le_of_ble_eq_true rfl⟩ (fun H locs hH => ?_)
        refine vx_ret ?_
        refine W.widen (k := 3) (n := 60) (by first | exact Nat.le_of_ble_eq_true rfl | omega) (by first | exact Nat.le_of_ble_eq_true rfl | omega) ?_
        exact gq_iret hd S hr hlk hH dX0_text_55
      · have hd := if_n c4 hd
        obtain ⟨z6, hd⟩ := bs_g_spec hd
        have z6 := of_decide_eq_true z6
        obtain ⟨v7, hv7, hd⟩ := bs_bd hd
        obtain ⟨s8, es8, hd⟩ := bs_let_spec hd
        refine xa_textM S hE hK hH hl c4 z6 hv7 es8 (Nat.le_of_ble_eq_true rfl) (Nat.le_of_ble_eq_true rfl) (fun b H locs ls hl hH => ?_)
        refine lv_iload_n (pc := 47) hx hb dX0_text_47 rfl (lv_at hl 2 rfl) ?_
        refine vx_ret ?_
        refine W.widen (k := 3) (n := 60) (by first | exact Nat.le_of_ble_eq_true rfl | omega) (by first | exact Nat.le_of_ble_eq_true rfl | omega) ?_
        exact gq_iret hd S hr hlk hH dX0_text_48
    · have hd := if_n c3 hd
      refine lv_iconst (v := (-1 : Int32)) (pc := 13) hx hb dX0_text_13 (by decide) ?_
      refine vx_ret ?_
      refine W.widen (k := 3) (n := 60) (by first | exact Nat.le_of_ble_eq_true rfl | omega) (by first | exact Nat.le_of_ble_eq_true rfl | omega) ?_
      exact gq_iret hd S hr hlk hH dX0_text_14
section CR_X_text
variable {p : Program} {l : Launch} {e : Env} {R : Room} {s : State} {m : MethodId} {args : Array Value} {below : List Frame} {meth : Method} {c : Code} {H : Heap} {locs : List Loc} {cells slots : Nat} {Q : State → Prop}
variable {cc : ByteArray} {pc nL idx : Nat} {ls : Array Slot} {rest : List Value} {lv : List (Nat × Value)} {A : Nat → Prop} {H0 : Heap} {own : String}
theorem call_X_text {D : va_G} {ct : Nat → ClassId} {a : XA} {st : XS} {a1 : Int32} {a2 : Int32} {z : (XS × Int32)} (hfl : l.stackTraces = false) (S : CallFix p m c cc nL s args lw_all own) (hl : lv_has ls nL lv) (hE : gEX s) (hK : va_K D clA (tysG ct) s) (hH : GH D A (xAs a) H0 (WX ct a none st) H locs) (hZ : vx_Zq Bundle.tN "UNASSIGNED_STACK" Bundle.steD (gA (xAs a) H.size) s H ∧ vx_Zq Bundle.tN "SUPPRESSED_SENTINEL" Bundle.listD (gA (xAs a) H.size) s H) (hlk : Cond.methodLink own idx yX0_text ∈ lw_all) (hv : X_text st a1 a2 = some z) (hR : 10 ≤ R.frames ∧ 10344 ≤ R.locals) (hsum : (rest.map fun v => v.category).sum ≤ 8) (hdg : decode cc pc = .ok (.invokevirtual idx, 3)) (hf : cells + 3 ≤ R.cells ∧ slots + 60 ≤ R.slots)
    (k : ∀ (b : XB) (H1 : Heap) (locs1 : List Loc), GH D A (xAs (a.1, b)) H0 (WX ct (a.1, b) none z.1) H1 locs1 → W p l e R s m args below meth c H1 locs1 (cells + 3) (slots + 60) Q (F0 m (pc + 3) ls (.int z.2 :: rest))) : W p l e R s m args below meth c H locs cells slots Q (F0 m pc ls (.int a2 :: .int a1 :: .ref (ah a 0) :: rest)) :=
  gqx_calli (av := [.int a1, .int a2]) S hl hE hK hH hZ (met_X_text l hfl D ct a H.size st a1 a2 z hv) (lw_VW hlk q380 q381 q69 q382) rfl rfl ⟨rfl, by decide, by decide, by show (parseMethodDescriptor yX0_text.desc).map (fun d => d.parameters.length) = some 2; decide +kernel⟩ hR (x_recv hK hH) rfl hsum hdg hf k
end CR_X_text
