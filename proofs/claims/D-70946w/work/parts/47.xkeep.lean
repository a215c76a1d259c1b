set_option maxRecDepth 100000
/-! CapCouncil.write ([II)V -/
def X_write_know (st : XS) (j1 : Nat) (a2 : Int32) : Option XS :=
  (xkwst st j1 a2 (xi st 7)).bind fun s1 =>
  (xkwst s1 j1 (a2 + (1 : Int32)) (xi s1 8)).bind fun s2 =>
  bs_g (xk s2 j1).isSome <|
  (bs_cp (xa s2 5) 6 (xkN s2 j1) 14 (0 : Int32) (a2 + (2 : Int32)) (6 : Int32)).bind fun f4 =>
  bs_let (sxkN s2 j1 f4) fun s5 =>
  bs_g (xk s5 j1).isSome <|
  (bs_cp (xa s5 6) 6 (xkN s5 j1) 14 (0 : Int32) (a2 + (8 : Int32)) (6 : Int32)).bind fun f7 =>
  bs_let (sxkN s5 j1 f7) fun s8 =>
  some s8
def rm_X_write_know : Room := { frames := 1, cells := 0, slots := 0, locals := 60 }
set_option maxHeartbeats 4000000 in
set_option maxRecDepth 100000 in
theorem met_X_write_know (l : Launch) (D : va_G) (ct : Nat → ClassId) (a : XA) (ρ : Option Nat) (sz : Nat) (st : XS) (j1 : Nat) (a2 : Int32) (hj1 : j1 < 3) (z : XS) (hd : X_write_know st j1 a2 = some z) : Met l yX0_write (ws_ yX0_write cX0_write 3 none) rm_X_write_know (GPre gEX D ct (xAs a) (WX ct a ρ st) sz [.ref (ah a 0), va_rf (ak3 a j1), .int a2]) (GQv D (xAs a) (xAs a) (WX ct a ρ z) sz) 0 0 (gA (xAs a) sz) := by
  refine g_met (cc := cX0_write) (maxL := 3) (ret := none) (by decide) (by simp [lg_sl, va_rf_cat, vc_int, vc_ref, vc_long]) ?_
  intro p e U m args below meth c ls S hr hlk hK hH hE hsz hl
  have S : CallFix p m c cX0_write 3 U args lw_all RX0 := S
  have hx := S.1
  have hb := S.2.1
  have hl : lv_has ls 3 [(0, .ref (ah a 0)), (1, va_rf (ak3 a j1)), (2, .int a2)] := (by simpa [lv_args, va_rf_cat, vc_int, vc_ref, vc_long] using hl)
  unfold X_write_know at hd
  refine lv_aload_nO (pc := 0) hx hb dX0_write_0 rfl (lv_at hl 1 rfl) ?_
  refine lv_iload_n (pc := 1) hx hb dX0_write_1 rfl (lv_at hl 2 rfl) ?_
  refine lv_aload_n (pc := 2) hx hb dX0_write_2 rfl (lv_at hl 0 rfl) ?_
  refine xg_yearNow (pc := 3) S hK hH dX0_write_3 ?_
  obtain ⟨s1, hs1, hd⟩ := bs_bd hd
  refine xkw_st (pc := 6) S hK hH hj1 hs1 dX0_write_6 (fun H locs hH => ?_)
  refine lv_aload_nO (pc := 7) hx hb dX0_write_7 rfl (lv_at hl 1 rfl) ?_
  refine lv_iload_n (pc := 8) hx hb dX0_write_8 rfl (lv_at hl 2 rfl) ?_
  refine lv_iconst (v := (1 : Int32)) (pc := 9) hx hb dX0_write_9 (by decide) ?_
  refine lv_iadd (pc := 10) hx hb dX0_write_10 ?_
  refine lv_aload_n (pc := 11) hx hb dX0_write_11 rfl (lv_at hl 0 rfl) ?_
  refine xg_up (pc := 12) S hK hH dX0_write_12 ?_
  obtain ⟨s2, hs2, hd⟩ := bs_bd hd
  refine xkw_st (pc := 15) S hK hH hj1 hs2 dX0_write_15 (fun H locs hH => ?_)
  refine lv_aload_n (pc := 16) hx hb dX0_write_16 rfl (lv_at hl 0 rfl) ?_
  refine xg_places (pc := 17) S hK hH dX0_write_17 ?_
  refine lv_iconst (v := (0 : Int32)) (pc := 20) hx hb dX0_write_20 (by decide) ?_
  refine lv_aload_nO (pc := 21) hx hb dX0_write_21 rfl (lv_at hl 1 rfl) ?_
  refine lv_iload_n (pc := 22) hx hb dX0_write_22 rfl (lv_at hl 2 rfl) ?_
  refine lv_iconst (v := (2 : Int32)) (pc := 23) hx hb dX0_write_23 (by decide) ?_
  refine lv_iadd (pc := 24) hx hb dX0_write_24 ?_
  refine lv_bipush (v := (6 : Int32)) (pc := 25) hx hb dX0_write_25 (by decide) ?_
  obtain ⟨z3, hd⟩ := bs_g_spec hd
  obtain ⟨f4, hf4, hd⟩ := bs_bd hd
  obtain ⟨s5, es5, hd⟩ := bs_let_spec hd
  refine xc_places_know (pc := 27) S hl hK hH hj1 z3 hf4 es5 ⟨Nat.le_of_ble_eq_true rfl, Nat.le_of_ble_eq_true rfl⟩ (by simp [va_rf_cat, vc_int, vc_ref, vc_long]) dX0_write_27 (fun H locs hH => ?_)
  refine lv_aload_n (pc := 30) hx hb dX0_write_30 rfl (lv_at hl 0 rfl) ?_
  refine xg_thoughts (pc := 31) S hK hH dX0_write_31 ?_
  refine lv_iconst (v := (0 : Int32)) (pc := 34) hx hb dX0_write_34 (by decide) ?_
  refine lv_aload_nO (pc := 35) hx hb dX0_write_35 rfl (lv_at hl 1 rfl) ?_
  refine lv_iload_n (pc := 36) hx hb dX0_write_36 rfl (lv_at hl 2 rfl) ?_
  refine lv_bipush (v := (8 : Int32)) (pc := 37) hx hb dX0_write_37 (by decide) ?_
  refine lv_iadd (pc := 39) hx hb dX0_write_39 ?_
  refine lv_bipush (v := (6 : Int32)) (pc := 40) hx hb dX0_write_40 (by decide) ?_
  obtain ⟨z6, hd⟩ := bs_g_spec hd
  obtain ⟨f7, hf7, hd⟩ := bs_bd hd
  obtain ⟨s8, es8, hd⟩ := bs_let_spec hd
  refine xc_thoughts_know (pc := 42) S hl hK hH hj1 z6 hf7 es8 ⟨Nat.le_of_ble_eq_true rfl, Nat.le_of_ble_eq_true rfl⟩ (by simp [va_rf_cat, vc_int, vc_ref, vc_long]) dX0_write_42 (fun H locs hH => ?_)
  exact g_vret (WX ct a ρ) hd S hr hlk hH dX0_write_45
section CR_X_write_know
variable {p : Program} {l : Launch} {e : Env} {R : Room} {s : State} {m : MethodId} {args : Array Value} {below : List Frame} {meth : Method} {c : Code} {H : Heap} {locs : List Loc} {cells slots : Nat} {Q : State → Prop}
variable {cc : ByteArray} {pc nL idx : Nat} {ls : Array Slot} {rest : List Value} {lv : List (Nat × Value)} {A : Nat → Prop} {H0 : Heap} {own : String}
theorem call_X_write_know {D : va_G} {ct : Nat → ClassId} {a : XA} {ρ : Option Nat} {st : XS} {j1 : Nat} {a2 : Int32} {z : XS} (S : CallFix p m c cc nL s args lw_all own) (hl : lv_has ls nL lv) (hE : gEX s) (hK : va_K D clA (tysG ct) s) (hH : GH D A (xAs a) H0 (WX ct a ρ st) H locs) (hlk : Cond.methodLink own idx yX0_write ∈ lw_all) (hv : X_write_know st j1 a2 = some z) (hj1 : j1 < 3) (hR : 2 ≤ R.frames ∧ 82 ≤ R.locals) (hsum : (rest.map fun v => v.category).sum ≤ 8) (hdg : decode cc pc = .ok (.invokevirtual idx, 3)) (hf : cells ≤ R.cells ∧ slots ≤ R.slots)
    (k : ∀ (H1 : Heap) (locs1 : List Loc), GH D A (xAs a) H0 (WX ct a ρ z) H1 locs1 → W p l e R s m args below meth c H1 locs1 cells slots Q (F0 m (pc + 3) ls (rest))) : W p l e R s m args below meth c H locs cells slots Q (F0 m pc ls (.int a2 :: va_rf (ak3 a j1) :: .ref (ah a 0) :: rest)) :=
  g_callv (av := [va_rf (ak3 a j1), .int a2]) S hl gEX_ok hE hK hH (met_X_write_know l D ct a ρ H.size st j1 a2 hj1 z hv) (lw_V hlk q663 qs21 q69 q664) rfl rfl ⟨rfl, by decide, by decide, by show (parseMethodDescriptor yX0_write.desc).map (fun d => d.parameters.length) = some 2; decide +kernel⟩ hR (x_recv hK hH) (fun _ h => Or.inl h) rfl hsum hdg hf k
end CR_X_write_know
/-! CapCouncil.keep (I)I -/
def X_keep_J41 (a1 : Int32) (st : XS) : Option (XS × Int32) :=
  (bs_ix 3 a1).bind fun v8 =>
  bs_let (xi st 9) fun w9 =>
  (xkset st v8 w9).bind fun s10 =>
  bs_g (xk s10 v8).isSome <|
  bs_g (xk s10 v8).isSome <|
  (bs_cp (xa s10 7) 560 (xkA s10 v8) 560 (0 : Int32) (0 : Int32) ((14 : Int32) * (xi s10 9))).bind fun f13 =>
  bs_let (sxkA s10 v8 f13) fun s14 =>
  bs_g (xk s14 v8).isSome <|
  (X_write_know s14 v8 (0 : Int32)).bind fun q16 =>
  some (q16, (xi q16 9))
def X_keep (st : XS) (a1 : Int32) : Option (XS × Int32) :=
  (X_isKept a1).bind fun v1 =>
  if v1 = 0 then
    (some (st, (-1 : Int32)))
  else
    (if (xi st 2) = 0 then
      (some (st, (-4 : Int32)))
    else
      ((bs_ix 3 a1).bind fun v4 =>
      if (xk st v4).isSome = true then
        (X_keep_J41 a1 st)
      else
        ((bs_ix 3 a1).bind fun v6 =>
        bs_let (sxk st v6 (some (0, (fun _ => 0), (fun _ => 0)))) fun s7 =>
        X_keep_J41 a1 s7)))
def rm_X_keep : Room := { frames := 5, cells := 3, slots := 577, locals := 120 }
set_option maxHeartbeats 4000000 in
set_option maxRecDepth 100000 in
theorem met_X_keep (l : Launch) (D : va_G) (ct : Nat → ClassId) (a : XA) (sz : Nat) (st : XS) (a1 : Int32) (z : (XS × Int32)) (hd : X_keep st a1 = some z) : Met l yX0_keep (ws_ yX0_keep cX0_keep 3 (some .int)) rm_X_keep (GPre gEX D ct (xAs a) (WX ct a none st) sz [.ref (ah a 0), .int a1]) (GQx D ct a z.1 sz z.2) 3 577 (gA (xAs a) sz) := by
  refine g_met (cc := cX0_keep) (maxL := 3) (ret := (some .int)) (by decide) (Nat.le_of_ble_eq_true rfl) ?_
  intro p e U m args below meth c ls S hr hlk hK hH hE hsz hl
  have S : CallFix p m c cX0_keep 3 U args lw_all RX0 := S
  have hx := S.1
  have hb := S.2.1
  have hl : lv_has ls 3 [(0, .ref (ah a 0)), (1, .int a1)] := hl
  have h41 : ∀ (st : XS) (b : XB) (ce sl : Nat) (hce : ce + 0 ≤ 3) (hsl : sl + 0 ≤ 577) (H : Heap) (locs : List Loc) (ls : Array Slot), GH D (gA (xAs a) sz) (xAs (a.1, b)) U.heap (WX ct (a.1, b) none st) H locs → lv_has ls 3 [(0, .ref (ah a 0)), (1, .int a1)] → X_keep_J41 a1 st = some z → W p l e rm_X_keep U m args below meth c H locs ce sl (MQ below (GQx D ct a z.1 sz z.2) args U 3 577 (gA (xAs a) sz)) (F0 m 41 ls []) := by
    intro st b ce sl hce hsl H locs ls hH hl hd
    unfold X_keep_J41 at hd
    refine lv_aload_n (pc := 41) hx hb dX0_keep_41 rfl (lv_at hl 0 rfl) ?_
    refine xg_kept (a := (a.1, b)) (pc := 42) S hK hH dX0_keep_42 ?_
    refine lv_iload_n (pc := 45) hx hb dX0_keep_45 rfl (lv_at hl 1 rfl) ?_
    obtain ⟨v8, hv8, hd⟩ := bs_bd hd
    refine xq_kept (a := (a.1, b)) (pc := 46) S hK hH hv8 dX0_keep_46 ?_
    refine lv_astore_nO (pc := 47) (lv' := [(2, va_rf (ak1 (a.1, b) v8)), (0, .ref (ah a 0)), (1, .int a1)]) hx hb dX0_keep_47 rfl hl (by decide) rfl (fun ls hl => ?_)
    refine lv_aload_nO (pc := 48) hx hb dX0_keep_48 rfl (lv_at hl 0 rfl) ?_
    refine lv_aload_n (pc := 49) hx hb dX0_keep_49 rfl (lv_at hl 1 rfl) ?_
    refine xg_deedMany (a := (a.1, b)) (pc := 50) S hK hH dX0_keep_50 ?_
    obtain ⟨w9, ew9, hd⟩ := bs_let_spec hd
    refine lv_topE (pc := 53) ew9 ?_
    obtain ⟨s10, hs10, hd⟩ := bs_bd hd
    refine xk_put (a := (a.1, b)) (pc := 53) S hE hK hH (bs_ix_lt hv8) hs10 dX0_keep_53 (fun H locs hH => ?_)
    refine lv_aload_n (pc := 56) hx hb dX0_keep_56 rfl (lv_at hl 1 rfl) ?_
    refine xg_ahead (a := (a.1, b)) (pc := 57) S hK hH dX0_keep_57 ?_
    refine lv_iconst (v := (0 : Int32)) (pc := 60) hx hb dX0_keep_60 (by decide) ?_
    refine lv_aload_nO (pc := 61) hx hb dX0_keep_61 rfl (lv_at hl 0 rfl) ?_
    obtain ⟨z11, hd⟩ := bs_g_spec hd
    refine xk_ahead (a := (a.1, b)) (pc := 62) S hE hK hH (bs_ix_lt hv8) z11 dX0_keep_62 ?_
    refine lv_iconst (v := (0 : Int32)) (pc := 65) hx hb dX0_keep_65 (by decide) ?_
    refine lv_bipush (v := (14 : Int32)) (pc := 66) hx hb dX0_keep_66 (by decide) ?_
    refine lv_aload_n (pc := 68) hx hb dX0_keep_68 rfl (lv_at hl 1 rfl) ?_
    refine xg_deedMany (a := (a.1, b)) (pc := 69) S hK hH dX0_keep_69 ?_
    refine lv_imul (pc := 72) hx hb dX0_keep_72 ?_
    obtain ⟨z12, hd⟩ := bs_g_spec hd
    obtain ⟨f13, hf13, hd⟩ := bs_bd hd
    obtain ⟨s14, es14, hd⟩ := bs_let_spec hd
    refine xc_ahead_kah (a := (a.1, b)) (pc := 73) S hl hK hH (bs_ix_lt hv8) z12 hf13 es14 ⟨Nat.le_of_ble_eq_true rfl, Nat.le_of_ble_eq_true rfl⟩ (by simp [va_rf_cat, vc_int, vc_ref, vc_long]) dX0_keep_73 (fun H locs hH => ?_)
    refine lv_aload_n (pc := 76) hx hb dX0_keep_76 rfl (lv_at hl 1 rfl) ?_
    refine lv_aload_nO (pc := 77) hx hb dX0_keep_77 rfl (lv_at hl 0 rfl) ?_
    obtain ⟨z15, hd⟩ := bs_g_spec hd
    refine xk_now (a := (a.1, b)) (pc := 78) S hE hK hH (bs_ix_lt hv8) z15 dX0_keep_78 ?_
    refine lv_iconst (v := (0 : Int32)) (pc := 81) hx hb dX0_keep_81 (by decide) ?_
    obtain ⟨q16, hq16, hd⟩ := bs_bd hd
    refine call_X_write_know (a := (a.1, b)) (pc := 82) S hl hE hK hH q661 hq16 (bs_ix_lt hv8) ⟨Nat.le_of_ble_eq_true rfl, Nat.le_of_ble_eq_true rfl⟩ (Nat.le_of_ble_eq_true rfl) dX0_keep_82 ⟨by simp only [rm_X_keep]; omega, by simp only [rm_X_keep]; omega⟩ (fun H locs hH => ?_)
    refine lv_aload_n (pc := 85) hx hb dX0_keep_85 rfl (lv_at hl 1 rfl) ?_
    refine xg_deedMany (a := (a.1, b)) (pc := 86) S hK hH dX0_keep_86 ?_
    refine W.widen (k := 3) (n := 577) (by first | exact Nat.le_of_ble_eq_true rfl | omega) (by first | exact Nat.le_of_ble_eq_true rfl | omega) ?_
    exact gq_iret hd S hr hlk hH dX0_keep_89
  unfold X_keep at hd
  refine lv_iload_n (pc := 0) hx hb dX0_keep_0 rfl (lv_at hl 1 rfl) ?_
  obtain ⟨v1, hv1, hd⟩ := bs_bd hd
  refine call_X_isKept (pc := 1) S hl q703 hv1 ⟨Nat.le_of_ble_eq_true rfl, Nat.le_of_ble_eq_true rfl⟩ (Nat.le_of_ble_eq_true rfl) dX0_keep_1 ⟨Nat.le_of_ble_eq_true rfl, Nat.le_of_ble_eq_true rfl⟩ ?_
  refine lv_if_ne (pc := 4) (tgt := 9) hx hb dX0_keep_4 (by decide) (fun c2 => ?_) (fun c2 => ?_)
  · have hd := if_n c2 hd
    refine lv_aload_n (pc := 9) hx hb dX0_keep_9 rfl (lv_at hl 0 rfl) ?_
    refine xg_ringMany (pc := 10) S hK hH dX0_keep_10 ?_
    refine lv_if_ne (pc := 13) (tgt := 19) hx hb dX0_keep_13 (by decide) (fun c3 => ?_) (fun c3 => ?_)
    · have hd := if_n c3 hd
      refine lv_aload_n (pc := 19) hx hb dX0_keep_19 rfl (lv_at hl 0 rfl) ?_
      refine xg_kept (pc := 20) S hK hH dX0_keep_20 ?_
      refine lv_iload_n (pc := 23) hx hb dX0_keep_23 rfl (lv_at hl 1 rfl) ?_
      obtain ⟨v4, hv4, hd⟩ := bs_bd hd
      refine xq_kept (pc := 24) S hK hH hv4 dX0_keep_24 ?_
      refine lv_ifnonnullO (pc := 25) (tgt := 41) hx hb dX0_keep_25 (by decide) (fun c5 => ?_) (fun c5 => ?_)
      · have hd := if_t ((xo_k hH (bs_ix_lt hv4)).symm.trans c5) hd
        exact h41 st _ _ _ (by first | omega | (simp only [bs_fu]; omega)) (by first | omega | (simp only [bs_fu]; omega)) _ _ _ hH (lv_sub hl [0, 1] rfl) hd
      · have hd := if_n (fun h9 => c5 ((xo_k hH (bs_ix_lt hv4)).trans h9)) hd
        refine lv_aload_n (pc := 28) hx hb dX0_keep_28 rfl (lv_at hl 0 rfl) ?_
        refine xg_kept (pc := 29) S hK hH dX0_keep_29 ?_
        refine lv_iload_n (pc := 32) hx hb dX0_keep_32 rfl (lv_at hl 1 rfl) ?_
        refine xa_newKept S hl hE hK hH (Nat.le_of_ble_eq_true rfl) ⟨Nat.le_of_ble_eq_true rfl, Nat.le_of_ble_eq_true rfl⟩ ⟨Nat.le_of_ble_eq_true rfl, Nat.le_of_ble_eq_true rfl⟩ (fun q q2 q3 H locs hH => ?_)
        obtain ⟨v6, hv6, hd⟩ := bs_bd hd
        obtain ⟨s7, es7, hd⟩ := bs_let_spec hd
        refine xa_kept (pc := 40) S hK hH hv6 es7 dX0_keep_40 (fun b H locs hH => ?_)
        exact h41 s7 _ _ _ (by first | omega | (simp only [bs_fu]; omega)) (by first | omega | (simp only [bs_fu]; omega)) _ _ _ hH (lv_sub hl [0, 1] rfl) hd
    · have hd := if_t c3 hd
      refine lv_bipush (v := (-4 : Int32)) (pc := 16) hx hb dX0_keep_16 (by decide) ?_
      refine W.widen (k := 3) (n := 577) (by first | exact Nat.le_of_ble_eq_true rfl | omega) (by first | exact Nat.le_of_ble_eq_true rfl | omega) ?_
      exact gq_iret hd S hr hlk hH dX0_keep_18
  · have hd := if_t c2 hd
    refine lv_iconst (v := (-1 : Int32)) (pc := 7) hx hb dX0_keep_7 (by decide) ?_
    refine W.widen (k := 3) (n := 577) (by first | exact Nat.le_of_ble_eq_true rfl | omega) (by first | exact Nat.le_of_ble_eq_true rfl | omega) ?_
    exact gq_iret hd S hr hlk hH dX0_keep_8
section CR_X_keep
variable {p : Program} {l : Launch} {e : Env} {R : Room} {s : State} {m : MethodId} {args : Array Value} {below : List Frame} {meth : Method} {c : Code} {H : Heap} {locs : List Loc} {cells slots : Nat} {Q : State → Prop}
variable {cc : ByteArray} {pc nL idx : Nat} {ls : Array Slot} {rest : List Value} {lv : List (Nat × Value)} {A : Nat → Prop} {H0 : Heap} {own : String}
theorem call_X_keep {D : va_G} {ct : Nat → ClassId} {a : XA} {st : XS} {a1 : Int32} {z : (XS × Int32)} (S : CallFix p m c cc nL s args lw_all own) (hl : lv_has ls nL lv) (hE : gEX s) (hK : va_K D clA (tysG ct) s) (hH : GH D A (xAs a) H0 (WX ct a none st) H locs) (hlk : Cond.methodLink own idx yX0_keep ∈ lw_all) (hv : X_keep st a1 = some z) (hR : 6 ≤ R.frames ∧ 142 ≤ R.locals) (hsum : (rest.map fun v => v.category).sum ≤ 8) (hdg : decode cc pc = .ok (.invokevirtual idx, 3)) (hf : cells + 3 ≤ R.cells ∧ slots + 577 ≤ R.slots)
    (k : ∀ (b : XB) (H1 : Heap) (locs1 : List Loc), GH D A (xAs (a.1, b)) H0 (WX ct (a.1, b) none z.1) H1 locs1 → W p l e R s m args below meth c H1 locs1 (cells + 3) (slots + 577) Q (F0 m (pc + 3) ls (.int z.2 :: rest))) : W p l e R s m args below meth c H locs cells slots Q (F0 m pc ls (.int a1 :: .ref (ah a 0) :: rest)) :=
  gq_calli (av := [.int a1]) S hl hE hK hH (met_X_keep l D ct a H.size st a1 z hv) (lw_V hlk q700 q701 q69 q702) rfl rfl ⟨rfl, by decide, by decide, by show (parseMethodDescriptor yX0_keep.desc).map (fun d => d.parameters.length) = some 1; decide +kernel⟩ hR (x_recv hK hH) rfl hsum hdg hf k
end CR_X_keep
