set_option maxRecDepth 100000
/-! words that do not ride in the lists: nest mates' members, casts -/
def gEXw : List Cond := [.fieldLinkNest "CapCouncil" (283 : Nat) "CapCouncil$Kept" "deedMany" "I" "CapCouncil", .fieldLinkNest "CapCouncil" (284 : Nat) "CapCouncil$Kept" "ahead" "[I" "CapCouncil", .fieldLinkNest "CapCouncil" (285 : Nat) "CapCouncil$Kept" "now" "[I" "CapCouncil", .fieldLinkNest "CapCouncil$Ring" (15 : Nat) "CapCouncil" "yearNow" "I" "CapCouncil", .fieldLinkNest "CapCouncil$Puff" (17 : Nat) "CapCouncil" "yearNow" "I" "CapCouncil", .methodLinkNest "CapCouncil" (282 : Nat) ⟨"CapCouncil$Kept", "<init>", "()V"⟩ "CapCouncil", .methodLinkNest "CapCouncil$Ring" (18 : Nat) ⟨"CapCouncil", "holds", "(IIII)Z"⟩ "CapCouncil", .castable "java/lang/ClassCastException" "java/lang/ClassCastException", .castable "java/lang/RuntimeException" "java/lang/Throwable", .castable "java/lang/NegativeArraySizeException" "java/lang/NegativeArraySizeException", .castable "java/lang/NullPointerException" "java/lang/NullPointerException", .castable "java/lang/ArrayIndexOutOfBoundsException" "java/lang/ArrayIndexOutOfBoundsException", .castable "java/lang/ArrayIndexOutOfBoundsException" "java/lang/IndexOutOfBoundsException", .castable "java/lang/ArithmeticException" "java/lang/ArithmeticException", .castable "CapCouncil$Old" "CapCouncil$Ring", .castable "CapCouncil$Arc" "CapCouncil$Ring", .castable "CapCouncil$Puff" "CapCouncil$Ring", .castable "CapCouncil$Death" "CapCouncil$Old", .castable "CapCouncil$Death" "CapCouncil$Ring", .castable "CapCouncil$Whole" "CapCouncil$Arc", .castable "CapCouncil$Whole" "CapCouncil$Ring", .declares ⟨"java/lang/Throwable", "fillInStackTrace", "()Ljava/lang/Throwable;"⟩, .declares ⟨"java/lang/Throwable", "<init>", "()V"⟩, .declares ⟨"java/lang/Throwable", "<init>", "(Ljava/lang/String;)V"⟩, .declares ⟨"java/lang/Exception", "<init>", "()V"⟩, .declares ⟨"java/lang/Exception", "<init>", "(Ljava/lang/String;)V"⟩, .declares ⟨"java/lang/RuntimeException", "<init>", "()V"⟩, .declares ⟨"java/lang/RuntimeException", "<init>", "(Ljava/lang/String;)V"⟩, .declares ⟨"java/lang/IndexOutOfBoundsException", "<init>", "()V"⟩, .declares ⟨"java/lang/IndexOutOfBoundsException", "<init>", "(Ljava/lang/String;)V"⟩, .declares ⟨"CapCouncil$Ring", "but", "(LCapCouncil;II)I"⟩]
theorem gEXw_tbl : ∀ w ∈ gEXw, w ∈ lw_tbl := by
  intro w h
  simp only [gEXw, List.mem_cons, List.not_mem_nil, or_false] at h
  rcases h with rfl | rfl | rfl | rfl | rfl | rfl | rfl | rfl | rfl | rfl | rfl | rfl | rfl | rfl | rfl | rfl | rfl | rfl | rfl | rfl | rfl | rfl | rfl | rfl | rfl | rfl | rfl | rfl | rfl | rfl | rfl
  · exact q711
  · exact q713
  · exact q715
  · exact q127
  · exact q126
  · exact q707
  · exact q613
  · exact q597
  · exact q324
  · exact q259
  · exact q322
  · exact q340
  · exact q1354
  · exact q377
  · exact q1357
  · exact q1358
  · exact q1359
  · exact q1355
  · exact q1360
  · exact q1356
  · exact q1361
  · exact q231
  · exact q264
  · exact q265
  · exact q262
  · exact q263
  · exact q260
  · exact q261
  · exact q341
  · exact q342
  · exact q608
def gEXn : List (String × String) := [("java/lang/ArrayIndexOutOfBoundsException", "java/lang/NullPointerException"), ("java/lang/ArithmeticException", "java/lang/NullPointerException"), ("CapCouncil$Ring", "CapCouncil$Old"), ("CapCouncil$Arc", "CapCouncil$Old"), ("CapCouncil$Puff", "CapCouncil$Old"), ("CapCouncil$Whole", "CapCouncil$Old"), ("CapCouncil$Ring", "CapCouncil$Arc"), ("CapCouncil$Old", "CapCouncil$Arc"), ("CapCouncil$Puff", "CapCouncil$Arc"), ("CapCouncil$Death", "CapCouncil$Arc"), ("CapCouncil$Ring", "CapCouncil$Puff"), ("CapCouncil$Old", "CapCouncil$Puff"), ("CapCouncil$Arc", "CapCouncil$Puff"), ("CapCouncil$Death", "CapCouncil$Puff"), ("CapCouncil$Whole", "CapCouncil$Puff"), ("CapCouncil$Ring", "CapCouncil$Death"), ("CapCouncil$Old", "CapCouncil$Death"), ("CapCouncil$Arc", "CapCouncil$Death"), ("CapCouncil$Puff", "CapCouncil$Death"), ("CapCouncil$Whole", "CapCouncil$Death"), ("CapCouncil$Ring", "CapCouncil$Whole"), ("CapCouncil$Old", "CapCouncil$Whole"), ("CapCouncil$Arc", "CapCouncil$Whole"), ("CapCouncil$Puff", "CapCouncil$Whole"), ("CapCouncil$Death", "CapCouncil$Whole")]
/-- arrays of arrays: the class, and its elements' class -/
def gAO (t : FieldType) (U : State) : Prop := ∃ (comp c : ClassId) (k : Class), U.vm.findClass (FieldType.array t).toString = some comp ∧ U.vm.classes[c]? = some k ∧ k.kind = .array comp (.array t) ∧ U.vm.findClass ("[" ++ (FieldType.array t).toString) = some c
theorem gAO.of {t : FieldType} {args : Array Value} {s : State} (h : (Cond.arrayOver (.array t)).before args s = true) : gAO t s := by
  obtain ⟨comp, c, k, h1, -, h3, h4, h5⟩ := arrayOverA_spec h
  exact ⟨comp, c, k, h1, h3, h4, h5⟩
theorem gAO.moved {t : FieldType} {u U : State} (hvm : u.vm.Alike U.vm) (h : gAO t u) : gAO t U := by
  obtain ⟨comp, c, k, h1, h3, h4, h5⟩ := h
  obtain ⟨k', hk', he⟩ := hvm.2.2 _ _ h3
  exact ⟨comp, c, k', by rw [hvm.findClass]; exact h1, hk', by rw [he]; exact h4, by rw [hvm.findClass]; exact h5⟩
def gEX (U : State) : Prop := (∀ w ∈ gEXw, va_Nw w U) ∧ (∀ q ∈ gEXn, va_Nc q.1 q.2 U) ∧ gAO .int U ∧ gAO .byte U
theorem gEX_ok : gE_ok gEX := by
  constructor
  · intro s U hW h
    refine ⟨fun w hw => ?_, fun q hq => va_Nc.moved hW.alike (h.2.1 q hq), h.2.2.1.moved hW.alike, h.2.2.2.moved hW.alike⟩
    have hz := h.1 w hw
    simp only [gEXw, List.mem_cons, List.not_mem_nil, or_false] at hw
    rcases hw with rfl | rfl | rfl | rfl | rfl | rfl | rfl | rfl | rfl | rfl | rfl | rfl | rfl | rfl | rfl | rfl | rfl | rfl | rfl | rfl | rfl | rfl | rfl | rfl | rfl | rfl | rfl | rfl | rfl | rfl | rfl
    · exact va_Nw.warmF hW hz
    · exact va_Nw.warmF hW hz
    · exact va_Nw.warmF hW hz
    · exact va_Nw.warmF hW hz
    · exact va_Nw.warmF hW hz
    · exact va_Nw.warmM hW hz
    · exact va_Nw.warmM hW hz
    · exact va_Nw.warmC hW hz
    · exact va_Nw.warmC hW hz
    · exact va_Nw.warmC hW hz
    · exact va_Nw.warmC hW hz
    · exact va_Nw.warmC hW hz
    · exact va_Nw.warmC hW hz
    · exact va_Nw.warmC hW hz
    · exact va_Nw.warmC hW hz
    · exact va_Nw.warmC hW hz
    · exact va_Nw.warmC hW hz
    · exact va_Nw.warmC hW hz
    · exact va_Nw.warmC hW hz
    · exact va_Nw.warmC hW hz
    · exact va_Nw.warmC hW hz
    · exact va_Nw.warmD hW hz
    · exact va_Nw.warmD hW hz
    · exact va_Nw.warmD hW hz
    · exact va_Nw.warmD hW hz
    · exact va_Nw.warmD hW hz
    · exact va_Nw.warmD hW hz
    · exact va_Nw.warmD hW hz
    · exact va_Nw.warmD hW hz
    · exact va_Nw.warmD hW hz
    · exact va_Nw.warmD hW hz
  · intro s U hv h
    refine ⟨fun w hw => ?_, fun q hq => va_Nc.moved (by rw [hv]; exact Vm.Alike.refl _) (h.2.1 q hq), h.2.2.1.moved (by rw [hv]; exact Vm.Alike.refl _), h.2.2.2.moved (by rw [hv]; exact Vm.Alike.refl _)⟩
    have hz := h.1 w hw
    simp only [gEXw, List.mem_cons, List.not_mem_nil, or_false] at hw
    rcases hw with rfl | rfl | rfl | rfl | rfl | rfl | rfl | rfl | rfl | rfl | rfl | rfl | rfl | rfl | rfl | rfl | rfl | rfl | rfl | rfl | rfl | rfl | rfl | rfl | rfl | rfl | rfl | rfl | rfl | rfl | rfl
    · exact va_Nw.same rfl hv hz
    · exact va_Nw.same rfl hv hz
    · exact va_Nw.same rfl hv hz
    · exact va_Nw.same rfl hv hz
    · exact va_Nw.same rfl hv hz
    · exact va_Nw.same rfl hv hz
    · exact va_Nw.same rfl hv hz
    · exact va_Nw.same rfl hv hz
    · exact va_Nw.same rfl hv hz
    · exact va_Nw.same rfl hv hz
    · exact va_Nw.same rfl hv hz
    · exact va_Nw.same rfl hv hz
    · exact va_Nw.same rfl hv hz
    · exact va_Nw.same rfl hv hz
    · exact va_Nw.same rfl hv hz
    · exact va_Nw.same rfl hv hz
    · exact va_Nw.same rfl hv hz
    · exact va_Nw.same rfl hv hz
    · exact va_Nw.same rfl hv hz
    · exact va_Nw.same rfl hv hz
    · exact va_Nw.same rfl hv hz
    · exact va_Nw.same rfl hv hz
    · exact va_Nw.same rfl hv hz
    · exact va_Nw.same rfl hv hz
    · exact va_Nw.same rfl hv hz
    · exact va_Nw.same rfl hv hz
    · exact va_Nw.same rfl hv hz
    · exact va_Nw.same rfl hv hz
    · exact va_Nw.same rfl hv hz
    · exact va_Nw.same rfl hv hz
    · exact va_Nw.same rfl hv hz
def bs_g {β : Type} (b : Bool) (K : Option β) : Option β := if b = true then K else none
theorem bs_g_spec {β : Type} {b : Bool} {K : Option β} {z : β} (h : bs_g b K = some z) : b = true ∧ K = some z := by
  unfold bs_g at h
  by_cases c : b = true
  · rw [if_pos c] at h; exact ⟨c, h⟩
  · rw [if_neg c] at h; cases h
def xkd (s : XS) (j : Nat) : Option Int32 := (xk s j).map fun q => q.1
def xkset (s : XS) (j : Nat) (v : Int32) : Option XS := (xk s j).map fun q => sxk s j (some (v, q.2))
def xkA (s : XS) (j : Nat) : Nat → Int32 := match xk s j with
  | some q => q.2.1
  | none => fun _ => 0
def xkN (s : XS) (j : Nat) : Nat → Int32 := match xk s j with
  | some q => q.2.2
  | none => fun _ => 0
def sxkA (s : XS) (j : Nat) (f : Nat → Int32) : XS := match xk s j with
  | some q => sxk s j (some (q.1, f, q.2.2))
  | none => s
def sxkN (s : XS) (j : Nat) (f : Nat → Int32) : XS := match xk s j with
  | some q => sxk s j (some (q.1, q.2.1, f))
  | none => s
def xkwld (s : XS) (j : Nat) (i : Int32) : Option Int32 := (xk s j).bind fun q => bs_ld q.2.2 14 i
def xkwst (s : XS) (j : Nat) (i x : Int32) : Option XS := (xk s j).bind fun q => if bs_in i 14 = true then some (sxk s j (some (q.1, q.2.1, upd q.2.2 i.toNatClampNeg x))) else none
/-- a stretch is copied -/
def bs_cp (f : Nat → Int32) (nf : Nat) (g : Nat → Int32) (ng : Nat) (sp dp n : Int32) : Option (Nat → Int32) := if (¬ sp < 0 ∧ ¬ dp < 0 ∧ ¬ n < 0) ∧ sp.toNatClampNeg + n.toNatClampNeg ≤ nf ∧ dp.toNatClampNeg + n.toNatClampNeg ≤ ng then some (va_cpy f g sp.toNatClampNeg dp.toNatClampNeg n.toNatClampNeg) else none
theorem bs_cp_spec {f g r : Nat → Int32} {nf ng : Nat} {sp dp n : Int32} (h : bs_cp f nf g ng sp dp n = some r) : (¬ sp < 0 ∧ ¬ dp < 0 ∧ ¬ n < 0) ∧ sp.toNatClampNeg + n.toNatClampNeg ≤ nf ∧ dp.toNatClampNeg + n.toNatClampNeg ≤ ng ∧ r = va_cpy f g sp.toNatClampNeg dp.toNatClampNeg n.toNatClampNeg := by
  unfold bs_cp at h
  by_cases c : (¬ sp < 0 ∧ ¬ dp < 0 ∧ ¬ n < 0) ∧ sp.toNatClampNeg + n.toNatClampNeg ≤ nf ∧ dp.toNatClampNeg + n.toNatClampNeg ≤ ng
  · rw [if_pos c] at h
    exact ⟨c.1, c.2.1, c.2.2, (Option.some.inj h).symm⟩
  · rw [if_neg c] at h
    cases h
section XW3
variable {p : Program} {l : Launch} {e : Env} {R : Room} {s : State} {m : MethodId} {args : Array Value} {below : List Frame} {meth : Method} {c : Code} {H : Heap} {locs : List Loc} {cells slots : Nat} {Q : State → Prop}
variable {cc : ByteArray} {pc nL : Nat} {ls : Array Slot} {rest : List Value} {lv : List (Nat × Value)} {D : va_G} {ct : Nat → ClassId} {A : Nat → Prop} {H0 : Heap} {a : XA} {ρ : Option Nat} {st st1 : XS} {i x v sp dp n : Int32} {j t : Nat} {f : Nat → Int32}
theorem xg_readingT (S : CallFix p m c cc nL s args lw_all RX0) (hK : va_K D clA (tysG ct) s) (hH : GH D A (xAs a) H0 (WX ct a (some t) st) H locs) (hdg : decode cc pc = .ok (.getfield 136, 3)) (k : W p l e R s m args below meth c H locs cells slots Q (F0 m (pc + 3) ls (va_rf (ar a (6 + t)) :: rest))) : W p l e R s m args below meth c H locs cells slots Q (F0 m pc ls (.ref (ah a 0) :: rest)) := by
  refine xg_reading S hK hH hdg ?_
  rw [(xo_rd hH).1]
  exact k
theorem xp_reading {rv : Value} (S : CallFix p m c cc nL s args lw_all RX0) (hK : va_K D clA (tysG ct) s) (hH : GH D A (xAs a) H0 (WX ct a ρ st) H locs) (ht : t < 4) (hrv : rv = va_rf (ar a (6 + t))) (hdg : decode cc pc = .ok (.putfield 136, 3)) (he : st1 = sxv st rv) (k : ∀ (H1 : Heap) (locs1 : List Loc), GH D A (xAs a) H0 (WX ct a (some t) st1) H1 locs1 → W p l e R s m args below meth c H1 locs1 cells slots Q (F0 m (pc + 3) ls (rest))) : W p l e R s m args below meth c H locs cells slots Q (F0 m pc ls (va_rf (ar a (6 + t)) :: .ref (ah a 0) :: rest)) := by
  subst he
  subst hrv
  have hn : narrow (.array .byte) (va_rf (ar a (6 + t))) = va_rf (ar a (6 + t)) := by cases ar a (6 + t) <;> rfl
  have hf : fits (.array .byte) (va_rf (ar a (6 + t))) = true := by cases ar a (6 + t) <;> rfl
  refine va_put (D := D) (cl := clA) (ci := 0) (v := va_rf (ar a (6 + t))) (ty := .array .byte) (C := RX0) (T := TX0) (N := 27) S.1 S.2.1 S.2.2.2.2 in_X0 tyX0 tyX0_ok nmX0 S.2.2.2.1 hK hH.1 hH.D hH.2.2.1 0 rfl rfl 13 (by decide) (S.2.2.2.2 _ q120) (fun _ h9 => h9) rfl (by decide +kernel) hn hf (Nat.le_of_ble_eq_true rfl) hdg (fun H1 locs1 hP hD hS => ?_)
  refine k H1 locs1 ⟨hP, va_D.set hH.2.1 (p := 0) rfl, hS, hH.2.2.2.1, hH.2.2.2.2.1, hH.2.2.2.2.2.1, fun t2 h2 => ?_⟩
  cases h2
  exact ⟨rfl, ht⟩
theorem xn_rows (S : CallFix p m c cc nL s args lw_all RX0) (hK : va_K D clA (tysG ct) s) (hH : GH D A (xAs a) H0 (WX ct a ρ st) H locs) (hdg : decode cc pc = .ok (.arraylength, 1)) (k : W p l e R s m args below meth c H locs cells slots Q (F0 m (pc + 1) ls (.int (6 : Int32) :: rest))) : W p l e R s m args below meth c H locs cells slots Q (F0 m pc ls (.ref (ah a 2) :: rest)) := va_alen (cl := clA) S.1 S.2.1 hK hH.1 2 3 rfl rfl (v := (6 : Int32)) rfl hdg k
theorem xn_texts (S : CallFix p m c cc nL s args lw_all RX0) (hK : va_K D clA (tysG ct) s) (hH : GH D A (xAs a) H0 (WX ct a ρ st) H locs) (hdg : decode cc pc = .ok (.arraylength, 1)) (k : W p l e R s m args below meth c H locs cells slots Q (F0 m (pc + 1) ls (.int (4 : Int32) :: rest))) : W p l e R s m args below meth c H locs cells slots Q (F0 m pc ls (.ref (ah a 3) :: rest)) := va_alen (cl := clA) S.1 S.2.1 hK hH.1 3 4 rfl rfl (v := (4 : Int32)) rfl hdg k
theorem xn_likes (S : CallFix p m c cc nL s args lw_all RX0) (hK : va_K D clA (tysG ct) s) (hH : GH D A (xAs a) H0 (WX ct a ρ st) H locs) (hdg : decode cc pc = .ok (.arraylength, 1)) (k : W p l e R s m args below meth c H locs cells slots Q (F0 m (pc + 1) ls (.int (6 : Int32) :: rest))) : W p l e R s m args below meth c H locs cells slots Q (F0 m pc ls (.ref (ah a 4) :: rest)) := va_alen (cl := clA) S.1 S.2.1 hK hH.1 4 5 rfl rfl (v := (6 : Int32)) rfl hdg k
theorem xn_rings (S : CallFix p m c cc nL s args lw_all RX0) (hK : va_K D clA (tysG ct) s) (hH : GH D A (xAs a) H0 (WX ct a ρ st) H locs) (hdg : decode cc pc = .ok (.arraylength, 1)) (k : W p l e R s m args below meth c H locs cells slots Q (F0 m (pc + 1) ls (.int (5 : Int32) :: rest))) : W p l e R s m args below meth c H locs cells slots Q (F0 m pc ls (.ref (ah a 5) :: rest)) := va_alen (cl := clA) S.1 S.2.1 hK hH.1 5 5 rfl rfl (v := (5 : Int32)) rfl hdg k
theorem xn_kept (S : CallFix p m c cc nL s args lw_all RX0) (hK : va_K D clA (tysG ct) s) (hH : GH D A (xAs a) H0 (WX ct a ρ st) H locs) (hdg : decode cc pc = .ok (.arraylength, 1)) (k : W p l e R s m args below meth c H locs cells slots Q (F0 m (pc + 1) ls (.int (3 : Int32) :: rest))) : W p l e R s m args below meth c H locs cells slots Q (F0 m pc ls (.ref (ah a 13) :: rest)) := va_alen (cl := clA) S.1 S.2.1 hK hH.1 13 6 rfl rfl (v := (3 : Int32)) rfl hdg k
/-- a kept parish: its three cells -/
theorem xk_has (hX : (WX ct a ρ st).2) (hj : j < 3) {d : Int32} {f g : Nat → Int32} (hr : xk st j = some (d, f, g)) : ∃ (q1 q2 q3 k : Nat), ak a j = some (q1, q2, q3) ∧ (WX ct a ρ st).1[k]? = some (q1, .inr (8, [.int d, .ref q2, .ref q3])) ∧ (WX ct a ρ st).1[k + 1]? = some (q2, .inl (ct 0, 560, .inl f)) ∧ (WX ct a ρ st).1[k + 2]? = some (q3, .inl (ct 0, 14, .inl g)) ∧
    (∀ d' : Int32, (WX ct a ρ (sxk st j (some (d', f, g)))).1 = (WX ct a ρ st).1.set k (q1, .inr (8, [.int d', .ref q2, .ref q3]))) ∧ (∀ f' : Nat → Int32, (WX ct a ρ (sxk st j (some (d, f', g)))).1 = (WX ct a ρ st).1.set (k + 1) (q2, .inl (ct 0, 560, .inl f'))) ∧ ∀ g' : Nat → Int32, (WX ct a ρ (sxk st j (some (d, f, g')))).1 = (WX ct a ρ st).1.set (k + 2) (q3, .inl (ct 0, 14, .inl g')) := by
  obtain ⟨⟨q1, q2, q3⟩, hq⟩ := opt_of_isSome (hX.1.2.2.1 j hj) hr
  obtain ⟨P1, P2, e1, e2⟩ := wx_k ct a ρ st hj
  have hp : kP ct a st j = [(q1, .inr (8, [.int d, .ref q2, .ref q3])), (q2, .inl (ct 0, 560, .inl f)), (q3, .inl (ct 0, 14, .inl g))] := by unfold kP; rw [hq, hr]
  have hp2 : ∀ (d' : Int32) (f' g' : Nat → Int32), kP ct a (sxk st j (some (d', f', g'))) j = [(q1, .inr (8, [.int d', .ref q2, .ref q3])), (q2, .inl (ct 0, 560, .inl f')), (q3, .inl (ct 0, 14, .inl g'))] := by
    intro d' f' g'
    unfold kP
    rw [hq, show xk (sxk st j (some (d', f', g'))) j = some (d', f', g') from va_up_self _ _ _]
  refine ⟨q1, q2, q3, P1.length + 0, hq, ?_, ?_, ?_, fun d' => ?_, fun f' => ?_, fun g' => ?_⟩
  · rw [e1, hp]; exact fl_at P1 _ P2 0 rfl
  · rw [e1, hp]; exact fl_at P1 _ P2 1 rfl
  · rw [e1, hp]; exact fl_at P1 _ P2 2 rfl
  · rw [e2, e1, hp, hp2]; exact (fl_set P1 [_, _, _] P2 0 (by simp) _).symm
  · rw [e2, e1, hp, hp2]; exact (fl_set P1 [_, _, _] P2 1 (by simp) _).symm
  · rw [e2, e1, hp, hp2]; exact (fl_set P1 [_, _, _] P2 2 (by simp) _).symm
theorem xok_k (hX : (WX ct a ρ st).2) (hj : j < 3) {v w : Int32 × (Nat → Int32) × (Nat → Int32)} (hr : xk st j = some v) : (WX ct a ρ (sxk st j (some w))).2 := by
  refine ⟨⟨hX.1.1, hX.1.2.1, fun i hi => ?_, hX.1.2.2.2⟩, hX.2⟩
  by_cases c : i = j
  · subst c
    rw [hX.1.2.2.1 i hi, hr, show xk (sxk st i (some w)) i = some w from va_up_self _ _ _]
    rfl
  · rw [hX.1.2.2.1 i hi, show xk (sxk st j (some w)) i = xk st i from va_up_ne _ _ c]
theorem xk_some (h : (xk st j).isSome = true) : ∃ d f g, xk st j = some (d, f, g) := by
  obtain ⟨⟨d, f, g⟩, h⟩ := Option.isSome_iff_exists.mp h
  exact ⟨d, f, g, h⟩
theorem ak1_of {q1 q2 q3 : Nat} (h : ak a j = some (q1, q2, q3)) : ak1 a j = some q1 ∧ ak2 a j = some q2 ∧ ak3 a j = some q3 := by
  unfold ak1 ak2 ak3
  rw [h]
  exact ⟨rfl, rfl, rfl⟩
theorem xk_deed (S : CallFix p m c cc nL s args lw_all RX0) (hE : gEX s) (hK : va_K D clA (tysG ct) s) (hH : GH D A (xAs a) H0 (WX ct a ρ st) H locs) (hj : j < 3) (hv : xkd st j = some v) (hdg : decode cc pc = .ok (.getfield 283, 3)) (k : W p l e R s m args below meth c H locs cells slots Q (F0 m (pc + 3) ls (.int v :: rest))) : W p l e R s m args below meth c H locs cells slots Q (F0 m pc ls (va_rf (ak1 a j) :: rest)) := by
  obtain ⟨⟨d, f, g⟩, hr, rfl⟩ := Option.map_eq_some_iff.mp hv
  obtain ⟨q1, q2, q3, k0, hq, h1, -⟩ := xk_has hH.2.2.2.2.2 hj hr
  rw [(ak1_of hq).1]
  exact va_getN (D := D) (cl := clA) (ci := 8) (v := .int d) (host := RX0) (C := RX8) (T := TX8) (N := 3) S.1 S.2.1 S.2.2.2.2 in_X8 S.2.2.2.1 hK hH.1 k0 h1 rfl 0 (by decide) (va_Nw.use rfl (hE.1 _ (List.mem_of_getElem? (i := 0) rfl))) (fun _ h9 => h9) rfl hdg k
theorem xk_ahead (S : CallFix p m c cc nL s args lw_all RX0) (hE : gEX s) (hK : va_K D clA (tysG ct) s) (hH : GH D A (xAs a) H0 (WX ct a ρ st) H locs) (hj : j < 3) (hv : (xk st j).isSome = true) (hdg : decode cc pc = .ok (.getfield 284, 3)) (k : W p l e R s m args below meth c H locs cells slots Q (F0 m (pc + 3) ls (va_rf (ak2 a j) :: rest))) : W p l e R s m args below meth c H locs cells slots Q (F0 m pc ls (va_rf (ak1 a j) :: rest)) := by
  obtain ⟨d, f, g, hr⟩ := xk_some hv
  obtain ⟨q1, q2, q3, k0, hq, h1, -⟩ := xk_has hH.2.2.2.2.2 hj hr
  rw [(ak1_of hq).1]
  rw [(ak1_of hq).2.1] at k
  exact va_getN (D := D) (cl := clA) (ci := 8) (v := .ref q2) (host := RX0) (C := RX8) (T := TX8) (N := 3) S.1 S.2.1 S.2.2.2.2 in_X8 S.2.2.2.1 hK hH.1 k0 h1 rfl 1 (by decide) (va_Nw.use rfl (hE.1 _ (List.mem_of_getElem? (i := 1) rfl))) (fun _ h9 => h9) rfl hdg k
theorem xk_now (S : CallFix p m c cc nL s args lw_all RX0) (hE : gEX s) (hK : va_K D clA (tysG ct) s) (hH : GH D A (xAs a) H0 (WX ct a ρ st) H locs) (hj : j < 3) (hv : (xk st j).isSome = true) (hdg : decode cc pc = .ok (.getfield 285, 3)) (k : W p l e R s m args below meth c H locs cells slots Q (F0 m (pc + 3) ls (va_rf (ak3 a j) :: rest))) : W p l e R s m args below meth c H locs cells slots Q (F0 m pc ls (va_rf (ak1 a j) :: rest)) := by
  obtain ⟨d, f, g, hr⟩ := xk_some hv
  obtain ⟨q1, q2, q3, k0, hq, h1, -⟩ := xk_has hH.2.2.2.2.2 hj hr
  rw [(ak1_of hq).1]
  rw [(ak1_of hq).2.2] at k
  exact va_getN (D := D) (cl := clA) (ci := 8) (v := .ref q3) (host := RX0) (C := RX8) (T := TX8) (N := 3) S.1 S.2.1 S.2.2.2.2 in_X8 S.2.2.2.1 hK hH.1 k0 h1 rfl 2 (by decide) (va_Nw.use rfl (hE.1 _ (List.mem_of_getElem? (i := 2) rfl))) (fun _ h9 => h9) rfl hdg k
theorem xk_put (S : CallFix p m c cc nL s args lw_all RX0) (hE : gEX s) (hK : va_K D clA (tysG ct) s) (hH : GH D A (xAs a) H0 (WX ct a ρ st) H locs) (hj : j < 3) (hv : xkset st j x = some st1) (hdg : decode cc pc = .ok (.putfield 283, 3)) (k : ∀ (H1 : Heap) (locs1 : List Loc), GH D A (xAs a) H0 (WX ct a ρ st1) H1 locs1 → W p l e R s m args below meth c H1 locs1 cells slots Q (F0 m (pc + 3) ls (rest))) : W p l e R s m args below meth c H locs cells slots Q (F0 m pc ls (.int x :: va_rf (ak1 a j) :: rest)) := by
  obtain ⟨⟨d, f, g⟩, hr, rfl⟩ := Option.map_eq_some_iff.mp hv
  obtain ⟨q1, q2, q3, k0, hq, h1, -, -, hset, -⟩ := xk_has hH.2.2.2.2.2 hj hr
  rw [(ak1_of hq).1]
  refine va_putN (D := D) (cl := clA) (ci := 8) (v := .int x) (ty := .int) (host := RX0) (C := RX8) (T := TX8) (N := 3) S.1 S.2.1 S.2.2.2.2 in_X8 tyX8 tyX8_ok nmX8 S.2.2.2.1 hK hH.1 hH.D hH.2.2.1 k0 h1 rfl 0 (by decide) (va_Nw.use rfl (hE.1 _ (List.mem_of_getElem? (i := 0) rfl))) (fun _ h9 => h9) rfl (by decide +kernel) rfl rfl (Nat.le_of_ble_eq_true rfl) hdg (fun H1 locs1 hP hD hS => ?_)
  refine k H1 locs1 ⟨?_, ?_, hS, hH.2.2.2.1, hH.2.2.2.2.1, xok_k hH.2.2.2.2.2 hj hr⟩
  · rw [hset]; exact hP
  · rw [hset]; exact va_D.set hH.2.1 (p := k0) h1
theorem xkw_ld (S : CallFix p m c cc nL s args lw_all RX0) (hK : va_K D clA (tysG ct) s) (hH : GH D A (xAs a) H0 (WX ct a ρ st) H locs) (hj : j < 3) (hv : xkwld st j i = some v) (hdg : decode cc pc = .ok (.iaload, 1)) (k : W p l e R s m args below meth c H locs cells slots Q (F0 m (pc + 1) ls (.int v :: rest))) : W p l e R s m args below meth c H locs cells slots Q (F0 m pc ls (.int i :: va_rf (ak3 a j) :: rest)) := by
  obtain ⟨⟨d, f, g⟩, hr, h2⟩ := bs_bd hv
  obtain ⟨h3, h4⟩ := bs_ld_spec h2
  have h4 : g i.toNatClampNeg = v := h4
  obtain ⟨q1, q2, q3, k0, hq, -, -, h1, -⟩ := xk_has hH.2.2.2.2.2 hj hr
  rw [(ak1_of hq).2.2]
  refine va_iald (cl := clA) S.1 S.2.1 hK hH.1 (k0 + 2) 0 h1 rfl h3 hdg ?_
  rw [h4]
  exact k
theorem xkw_st (S : CallFix p m c cc nL s args lw_all RX0) (hK : va_K D clA (tysG ct) s) (hH : GH D A (xAs a) H0 (WX ct a ρ st) H locs) (hj : j < 3) (hv : xkwst st j i x = some st1) (hdg : decode cc pc = .ok (.iastore, 1)) (k : ∀ (H1 : Heap) (locs1 : List Loc), GH D A (xAs a) H0 (WX ct a ρ st1) H1 locs1 → W p l e R s m args below meth c H1 locs1 cells slots Q (F0 m (pc + 1) ls (rest))) : W p l e R s m args below meth c H locs cells slots Q (F0 m pc ls (.int x :: .int i :: va_rf (ak3 a j) :: rest)) := by
  obtain ⟨⟨d, f, g⟩, hr, h2⟩ := bs_bd hv
  by_cases c9 : bs_in i 14 = true
  · rw [if_pos c9] at h2
    cases h2
    obtain ⟨q1, q2, q3, k0, hq, -, -, h1, -, -, hset⟩ := xk_has hH.2.2.2.2.2 hj hr
    rw [(ak1_of hq).2.2]
    refine va_iast (cl := clA) S.1 S.2.1 hK hH.1 hH.D hH.2.2.1 (k0 + 2) 0 h1 rfl (bs_in_spec c9) hdg (fun H1 locs1 hP hD hS => ?_)
    refine k H1 locs1 ⟨?_, ?_, hS, hH.2.2.2.1, hH.2.2.2.2.1, xok_k hH.2.2.2.2.2 hj hr⟩
    · rw [hset]; exact hP
    · rw [hset]; exact va_D.set hH.2.1 (p := k0 + 2) h1
  · rw [if_neg c9] at h2
    cases h2
theorem g_copyR {rest : List Value} (hR : 1 ≤ R.frames ∧ 60 ≤ R.locals) (hsum : (rest.map fun v => v.category).sum ≤ 8) : (rest.map fun v => v.category).sum + (nativeFrameWords "java/lang/System" "arraycopy" 5 + 11) ≤ R.locals := by
  have h : nativeFrameWords "java/lang/System" "arraycopy" 5 = 7 := by decide
  omega
theorem g_copy (S : CallFix p m c cc nL s args lw_all RX0) (hl : lv_has ls nL lv) (hK : va_K D clA (tysG ct) s) {ws : va_W} (hP : va_P D clA ws H) (hD : va_D A ws) (hS : va_S A H0 H locs) (q0 q1 : Nat) {b0 b1 n0 n1 : Nat} {f g r : Nat → Int32} (h0 : ws[q0]? = some (b0, .inl (ct 0, n0, .inl f))) (h1 : ws[q1]? = some (b1, .inl (ct 0, n1, .inl g))) (hv : bs_cp f n0 g n1 sp dp n = some r) (hR : 1 ≤ R.frames ∧ 60 ≤ R.locals) (hsum : (rest.map fun v => v.category).sum ≤ 8) (hdg : decode cc pc = .ok (.invokestatic 102, 3))
    (k : ∀ (H1 : Heap) (locs1 : List Loc), va_P D clA (ws.set q1 (b1, .inl (ct 0, n1, .inl r))) H1 → va_D A (ws.set q1 (b1, .inl (ct 0, n1, .inl r))) → va_S A H0 H1 locs1 → W p l e R s m args below meth c H1 locs1 cells slots Q (F0 m (pc + 3) ls rest)) : W p l e R s m args below meth c H locs cells slots Q (F0 m pc ls (.int n :: .int dp :: .ref b1 :: .int sp :: .ref b0 :: rest)) := by
  obtain ⟨⟨a1, a2, a3⟩, a4, a5, rfl⟩ := bs_cp_spec hv
  exact va_copyi (own := RX0) S.1 S.2.1 (by rw [S.2.2.1]; exact hl.1.symm) S.2.2.2.1 (S.2.2.2.2 _ q358) (S.2.2.2.2 _ q360) (S.2.2.2.2 _ q359) (S.2.2.2.2 _ q79) hK hP hD hS q0 q1 0 0 h0 h1 rfl rfl rfl a1 a2 a3 a4 a5 (fun _ _ => rfl) hR.1 (g_copyR hR hsum) hdg k
theorem xc_places_ahead (S : CallFix p m c cc nL s args lw_all RX0) (hl : lv_has ls nL lv) (hK : va_K D clA (tysG ct) s) (hH : GH D A (xAs a) H0 (WX ct a ρ st) H locs) (hv : bs_cp (xa st 5) 6 (xa st 7) 560 sp dp n = some f) (he : st1 = sxa st 7 f) (hR : 1 ≤ R.frames ∧ 60 ≤ R.locals) (hsum : (rest.map fun v => v.category).sum ≤ 8) (hdg : decode cc pc = .ok (.invokestatic 102, 3)) (k : ∀ (H1 : Heap) (locs1 : List Loc), GH D A (xAs a) H0 (WX ct a ρ st1) H1 locs1 → W p l e R s m args below meth c H1 locs1 cells slots Q (F0 m (pc + 3) ls (rest))) : W p l e R s m args below meth c H locs cells slots Q (F0 m pc ls (.int n :: .int dp :: .ref (ah a 12) :: .int sp :: .ref (ah a 10) :: rest)) := by
  subst he
  refine g_copy S hl hK hH.1 hH.D hH.2.2.1 10 12 rfl rfl hv hR hsum hdg (fun H1 locs1 hP hD hS => ?_)
  exact k H1 locs1 ⟨hP, va_D.set hH.2.1 (p := 12) rfl, hS, hH.2.2.2⟩
theorem xc_thoughts_ahead (S : CallFix p m c cc nL s args lw_all RX0) (hl : lv_has ls nL lv) (hK : va_K D clA (tysG ct) s) (hH : GH D A (xAs a) H0 (WX ct a ρ st) H locs) (hv : bs_cp (xa st 6) 6 (xa st 7) 560 sp dp n = some f) (he : st1 = sxa st 7 f) (hR : 1 ≤ R.frames ∧ 60 ≤ R.locals) (hsum : (rest.map fun v => v.category).sum ≤ 8) (hdg : decode cc pc = .ok (.invokestatic 102, 3)) (k : ∀ (H1 : Heap) (locs1 : List Loc), GH D A (xAs a) H0 (WX ct a ρ st1) H1 locs1 → W p l e R s m args below meth c H1 locs1 cells slots Q (F0 m (pc + 3) ls (rest))) : W p l e R s m args below meth c H locs cells slots Q (F0 m pc ls (.int n :: .int dp :: .ref (ah a 12) :: .int sp :: .ref (ah a 11) :: rest)) := by
  subst he
  refine g_copy S hl hK hH.1 hH.D hH.2.2.1 11 12 rfl rfl hv hR hsum hdg (fun H1 locs1 hP hD hS => ?_)
  exact k H1 locs1 ⟨hP, va_D.set hH.2.1 (p := 12) rfl, hS, hH.2.2.2⟩
theorem xc_ahead_places (S : CallFix p m c cc nL s args lw_all RX0) (hl : lv_has ls nL lv) (hK : va_K D clA (tysG ct) s) (hH : GH D A (xAs a) H0 (WX ct a ρ st) H locs) (hv : bs_cp (xa st 7) 560 (xa st 5) 6 sp dp n = some f) (he : st1 = sxa st 5 f) (hR : 1 ≤ R.frames ∧ 60 ≤ R.locals) (hsum : (rest.map fun v => v.category).sum ≤ 8) (hdg : decode cc pc = .ok (.invokestatic 102, 3)) (k : ∀ (H1 : Heap) (locs1 : List Loc), GH D A (xAs a) H0 (WX ct a ρ st1) H1 locs1 → W p l e R s m args below meth c H1 locs1 cells slots Q (F0 m (pc + 3) ls (rest))) : W p l e R s m args below meth c H locs cells slots Q (F0 m pc ls (.int n :: .int dp :: .ref (ah a 10) :: .int sp :: .ref (ah a 12) :: rest)) := by
  subst he
  refine g_copy S hl hK hH.1 hH.D hH.2.2.1 12 10 rfl rfl hv hR hsum hdg (fun H1 locs1 hP hD hS => ?_)
  exact k H1 locs1 ⟨hP, va_D.set hH.2.1 (p := 10) rfl, hS, hH.2.2.2⟩
theorem xc_ahead_thoughts (S : CallFix p m c cc nL s args lw_all RX0) (hl : lv_has ls nL lv) (hK : va_K D clA (tysG ct) s) (hH : GH D A (xAs a) H0 (WX ct a ρ st) H locs) (hv : bs_cp (xa st 7) 560 (xa st 6) 6 sp dp n = some f) (he : st1 = sxa st 6 f) (hR : 1 ≤ R.frames ∧ 60 ≤ R.locals) (hsum : (rest.map fun v => v.category).sum ≤ 8) (hdg : decode cc pc = .ok (.invokestatic 102, 3)) (k : ∀ (H1 : Heap) (locs1 : List Loc), GH D A (xAs a) H0 (WX ct a ρ st1) H1 locs1 → W p l e R s m args below meth c H1 locs1 cells slots Q (F0 m (pc + 3) ls (rest))) : W p l e R s m args below meth c H locs cells slots Q (F0 m pc ls (.int n :: .int dp :: .ref (ah a 11) :: .int sp :: .ref (ah a 12) :: rest)) := by
  subst he
  refine g_copy S hl hK hH.1 hH.D hH.2.2.1 12 11 rfl rfl hv hR hsum hdg (fun H1 locs1 hP hD hS => ?_)
  exact k H1 locs1 ⟨hP, va_D.set hH.2.1 (p := 11) rfl, hS, hH.2.2.2⟩
theorem xc_places_know (S : CallFix p m c cc nL s args lw_all RX0) (hl : lv_has ls nL lv) (hK : va_K D clA (tysG ct) s) (hH : GH D A (xAs a) H0 (WX ct a ρ st) H locs) (hj : j < 3) (hs : (xk st j).isSome = true) (hv : bs_cp (xa st 5) 6 (xkN st j) 14 sp dp n = some f) (he : st1 = sxkN st j f) (hR : 1 ≤ R.frames ∧ 60 ≤ R.locals) (hsum : (rest.map fun v => v.category).sum ≤ 8) (hdg : decode cc pc = .ok (.invokestatic 102, 3)) (k : ∀ (H1 : Heap) (locs1 : List Loc), GH D A (xAs a) H0 (WX ct a ρ st1) H1 locs1 → W p l e R s m args below meth c H1 locs1 cells slots Q (F0 m (pc + 3) ls (rest))) : W p l e R s m args below meth c H locs cells slots Q (F0 m pc ls (.int n :: .int dp :: va_rf (ak3 a j) :: .int sp :: .ref (ah a 10) :: rest)) := by
  obtain ⟨d, f1, g1, hr⟩ := xk_some hs
  have e1 : xkN st j = g1 := by unfold xkN; rw [hr]
  have e2 : sxkN st j f = sxk st j (some (d, f1, f)) := by unfold sxkN; rw [hr]
  rw [e1] at hv
  rw [e2] at he
  subst he
  obtain ⟨q1, q2, q3, k0, hq, -, -, h1, -, -, hset⟩ := xk_has hH.2.2.2.2.2 hj hr
  rw [(ak1_of hq).2.2]
  refine g_copy S hl hK hH.1 hH.D hH.2.2.1 10 (k0 + 2) (f := xa st 5) (n0 := 6) (b0 := ah a 10) rfl (h1) hv hR hsum hdg (fun H1 locs1 hP hD hS => ?_)
  refine k H1 locs1 ⟨?_, ?_, hS, hH.2.2.2.1, hH.2.2.2.2.1, xok_k hH.2.2.2.2.2 hj hr⟩
  · rw [hset]; exact hP
  · rw [hset]; exact va_D.set hH.2.1 (p := k0 + 2) h1
theorem xc_thoughts_know (S : CallFix p m c cc nL s args lw_all RX0) (hl : lv_has ls nL lv) (hK : va_K D clA (tysG ct) s) (hH : GH D A (xAs a) H0 (WX ct a ρ st) H locs) (hj : j < 3) (hs : (xk st j).isSome = true) (hv : bs_cp (xa st 6) 6 (xkN st j) 14 sp dp n = some f) (he : st1 = sxkN st j f) (hR : 1 ≤ R.frames ∧ 60 ≤ R.locals) (hsum : (rest.map fun v => v.category).sum ≤ 8) (hdg : decode cc pc = .ok (.invokestatic 102, 3)) (k : ∀ (H1 : Heap) (locs1 : List Loc), GH D A (xAs a) H0 (WX ct a ρ st1) H1 locs1 → W p l e R s m args below meth c H1 locs1 cells slots Q (F0 m (pc + 3) ls (rest))) : W p l e R s m args below meth c H locs cells slots Q (F0 m pc ls (.int n :: .int dp :: va_rf (ak3 a j) :: .int sp :: .ref (ah a 11) :: rest)) := by
  obtain ⟨d, f1, g1, hr⟩ := xk_some hs
  have e1 : xkN st j = g1 := by unfold xkN; rw [hr]
  have e2 : sxkN st j f = sxk st j (some (d, f1, f)) := by unfold sxkN; rw [hr]
  rw [e1] at hv
  rw [e2] at he
  subst he
  obtain ⟨q1, q2, q3, k0, hq, -, -, h1, -, -, hset⟩ := xk_has hH.2.2.2.2.2 hj hr
  rw [(ak1_of hq).2.2]
  refine g_copy S hl hK hH.1 hH.D hH.2.2.1 11 (k0 + 2) (f := xa st 6) (n0 := 6) (b0 := ah a 11) rfl (h1) hv hR hsum hdg (fun H1 locs1 hP hD hS => ?_)
  refine k H1 locs1 ⟨?_, ?_, hS, hH.2.2.2.1, hH.2.2.2.2.1, xok_k hH.2.2.2.2.2 hj hr⟩
  · rw [hset]; exact hP
  · rw [hset]; exact va_D.set hH.2.1 (p := k0 + 2) h1
theorem xc_ahead_kah (S : CallFix p m c cc nL s args lw_all RX0) (hl : lv_has ls nL lv) (hK : va_K D clA (tysG ct) s) (hH : GH D A (xAs a) H0 (WX ct a ρ st) H locs) (hj : j < 3) (hs : (xk st j).isSome = true) (hv : bs_cp (xa st 7) 560 (xkA st j) 560 sp dp n = some f) (he : st1 = sxkA st j f) (hR : 1 ≤ R.frames ∧ 60 ≤ R.locals) (hsum : (rest.map fun v => v.category).sum ≤ 8) (hdg : decode cc pc = .ok (.invokestatic 102, 3)) (k : ∀ (H1 : Heap) (locs1 : List Loc), GH D A (xAs a) H0 (WX ct a ρ st1) H1 locs1 → W p l e R s m args below meth c H1 locs1 cells slots Q (F0 m (pc + 3) ls (rest))) : W p l e R s m args below meth c H locs cells slots Q (F0 m pc ls (.int n :: .int dp :: va_rf (ak2 a j) :: .int sp :: .ref (ah a 12) :: rest)) := by
  obtain ⟨d, f1, g1, hr⟩ := xk_some hs
  have e1 : xkA st j = f1 := by unfold xkA; rw [hr]
  have e2 : sxkA st j f = sxk st j (some (d, f, g1)) := by unfold sxkA; rw [hr]
  rw [e1] at hv
  rw [e2] at he
  subst he
  obtain ⟨q1, q2, q3, k0, hq, -, h1, -, -, hset, -⟩ := xk_has hH.2.2.2.2.2 hj hr
  rw [(ak1_of hq).2.1]
  refine g_copy S hl hK hH.1 hH.D hH.2.2.1 12 (k0 + 1) (f := xa st 7) (n0 := 560) (b0 := ah a 12) rfl (h1) hv hR hsum hdg (fun H1 locs1 hP hD hS => ?_)
  refine k H1 locs1 ⟨?_, ?_, hS, hH.2.2.2.1, hH.2.2.2.2.1, xok_k hH.2.2.2.2.2 hj hr⟩
  · rw [hset]; exact hP
  · rw [hset]; exact va_D.set hH.2.1 (p := k0 + 1) h1
theorem xc_know_places (S : CallFix p m c cc nL s args lw_all RX0) (hl : lv_has ls nL lv) (hK : va_K D clA (tysG ct) s) (hH : GH D A (xAs a) H0 (WX ct a ρ st) H locs) (hj : j < 3) (hs : (xk st j).isSome = true) (hv : bs_cp (xkN st j) 14 (xa st 5) 6 sp dp n = some f) (he : st1 = sxa st 5 f) (hR : 1 ≤ R.frames ∧ 60 ≤ R.locals) (hsum : (rest.map fun v => v.category).sum ≤ 8) (hdg : decode cc pc = .ok (.invokestatic 102, 3)) (k : ∀ (H1 : Heap) (locs1 : List Loc), GH D A (xAs a) H0 (WX ct a ρ st1) H1 locs1 → W p l e R s m args below meth c H1 locs1 cells slots Q (F0 m (pc + 3) ls (rest))) : W p l e R s m args below meth c H locs cells slots Q (F0 m pc ls (.int n :: .int dp :: .ref (ah a 10) :: .int sp :: va_rf (ak3 a j) :: rest)) := by
  obtain ⟨d, f1, g1, hr⟩ := xk_some hs
  have e1 : xkN st j = g1 := by unfold xkN; rw [hr]
  rw [e1] at hv
  subst he
  obtain ⟨q1, q2, q3, k0, hq, -, -, h1, -⟩ := xk_has hH.2.2.2.2.2 hj hr
  rw [(ak1_of hq).2.2]
  refine g_copy S hl hK hH.1 hH.D hH.2.2.1 (k0 + 2) 10 h1 rfl hv hR hsum hdg (fun H1 locs1 hP hD hS => ?_)
  exact k H1 locs1 ⟨hP, va_D.set hH.2.1 (p := 10) rfl, hS, hH.2.2.2⟩
theorem xc_know_thoughts (S : CallFix p m c cc nL s args lw_all RX0) (hl : lv_has ls nL lv) (hK : va_K D clA (tysG ct) s) (hH : GH D A (xAs a) H0 (WX ct a ρ st) H locs) (hj : j < 3) (hs : (xk st j).isSome = true) (hv : bs_cp (xkN st j) 14 (xa st 6) 6 sp dp n = some f) (he : st1 = sxa st 6 f) (hR : 1 ≤ R.frames ∧ 60 ≤ R.locals) (hsum : (rest.map fun v => v.category).sum ≤ 8) (hdg : decode cc pc = .ok (.invokestatic 102, 3)) (k : ∀ (H1 : Heap) (locs1 : List Loc), GH D A (xAs a) H0 (WX ct a ρ st1) H1 locs1 → W p l e R s m args below meth c H1 locs1 cells slots Q (F0 m (pc + 3) ls (rest))) : W p l e R s m args below meth c H locs cells slots Q (F0 m pc ls (.int n :: .int dp :: .ref (ah a 11) :: .int sp :: va_rf (ak3 a j) :: rest)) := by
  obtain ⟨d, f1, g1, hr⟩ := xk_some hs
  have e1 : xkN st j = g1 := by unfold xkN; rw [hr]
  rw [e1] at hv
  subst he
  obtain ⟨q1, q2, q3, k0, hq, -, -, h1, -⟩ := xk_has hH.2.2.2.2.2 hj hr
  rw [(ak1_of hq).2.2]
  refine g_copy S hl hK hH.1 hH.D hH.2.2.1 (k0 + 2) 11 h1 rfl hv hR hsum hdg (fun H1 locs1 hP hD hS => ?_)
  exact k H1 locs1 ⟨hP, va_D.set hH.2.1 (p := 11) rfl, hS, hH.2.2.2⟩
theorem xc_kah_ahead (S : CallFix p m c cc nL s args lw_all RX0) (hl : lv_has ls nL lv) (hK : va_K D clA (tysG ct) s) (hH : GH D A (xAs a) H0 (WX ct a ρ st) H locs) (hj : j < 3) (hs : (xk st j).isSome = true) (hv : bs_cp (xkA st j) 560 (xa st 7) 560 sp dp n = some f) (he : st1 = sxa st 7 f) (hR : 1 ≤ R.frames ∧ 60 ≤ R.locals) (hsum : (rest.map fun v => v.category).sum ≤ 8) (hdg : decode cc pc = .ok (.invokestatic 102, 3)) (k : ∀ (H1 : Heap) (locs1 : List Loc), GH D A (xAs a) H0 (WX ct a ρ st1) H1 locs1 → W p l e R s m args below meth c H1 locs1 cells slots Q (F0 m (pc + 3) ls (rest))) : W p l e R s m args below meth c H locs cells slots Q (F0 m pc ls (.int n :: .int dp :: .ref (ah a 12) :: .int sp :: va_rf (ak2 a j) :: rest)) := by
  obtain ⟨d, f1, g1, hr⟩ := xk_some hs
  have e1 : xkA st j = f1 := by unfold xkA; rw [hr]
  rw [e1] at hv
  subst he
  obtain ⟨q1, q2, q3, k0, hq, -, h1, -⟩ := xk_has hH.2.2.2.2.2 hj hr
  rw [(ak1_of hq).2.1]
  refine g_copy S hl hK hH.1 hH.D hH.2.2.1 (k0 + 1) 12 h1 rfl hv hR hsum hdg (fun H1 locs1 hP hD hS => ?_)
  exact k H1 locs1 ⟨hP, va_D.set hH.2.1 (p := 12) rfl, hS, hH.2.2.2⟩
end XW3
def J9_max (x y : Int32) : Option Int32 := some (if x < y then y else x)
section JC_max
variable {p : Program} {l : Launch} {e : Env} {R : Room} {s : State} {m : MethodId} {args : Array Value} {below : List Frame} {meth : Method} {c : Code} {H : Heap} {locs : List Loc} {cells slots : Nat} {Q : State → Prop}
variable {cc : ByteArray} {pc nL idx : Nat} {ls : Array Slot} {rest : List Value} {lv : List (Nat × Value)} {A : Nat → Prop} {H0 : Heap} {own : String}
theorem call_J9_max {x y z : Int32} (S : CallFix p m c cc nL s args lw_all own) (hl : lv_has ls nL lv) (hlk : Cond.methodLink own idx yJ9_max ∈ lw_all) (hv : J9_max x y = some z) (hR : 1 ≤ R.frames ∧ 21 ≤ R.locals) (hsum : (rest.map fun v => v.category).sum ≤ 8) (hdg : decode cc pc = .ok (.invokestatic idx, 3)) (hf : cells ≤ R.cells ∧ slots ≤ R.slots) (k : W p l e R s m args below meth c H locs cells slots Q (F0 m (pc + 3) ls (.int z :: rest))) : W p l e R s m args below meth c H locs cells slots Q (F0 m pc ls (.int y :: .int x :: rest)) := by
  cases hv
  exact va_mmax (index := idx) S.1 S.2.1 (by rw [S.2.2.1]; exact hl.1.symm) S.2.2.2.1 (S.2.2.2.2 _ hlk) (S.2.2.2.2 _ q740) (S.2.2.2.2 _ q87) (S.2.2.2.2 _ q741) hR.1 (by omega) hf.1 hf.2 hdg k
end JC_max
def J9_min (x y : Int32) : Option Int32 := some (if y < x then y else x)
section JC_min
variable {p : Program} {l : Launch} {e : Env} {R : Room} {s : State} {m : MethodId} {args : Array Value} {below : List Frame} {meth : Method} {c : Code} {H : Heap} {locs : List Loc} {cells slots : Nat} {Q : State → Prop}
variable {cc : ByteArray} {pc nL idx : Nat} {ls : Array Slot} {rest : List Value} {lv : List (Nat × Value)} {A : Nat → Prop} {H0 : Heap} {own : String}
theorem call_J9_min {x y z : Int32} (S : CallFix p m c cc nL s args lw_all own) (hl : lv_has ls nL lv) (hlk : Cond.methodLink own idx yJ9_min ∈ lw_all) (hv : J9_min x y = some z) (hR : 1 ≤ R.frames ∧ 21 ≤ R.locals) (hsum : (rest.map fun v => v.category).sum ≤ 8) (hdg : decode cc pc = .ok (.invokestatic idx, 3)) (hf : cells ≤ R.cells ∧ slots ≤ R.slots) (k : W p l e R s m args below meth c H locs cells slots Q (F0 m (pc + 3) ls (.int z :: rest))) : W p l e R s m args below meth c H locs cells slots Q (F0 m pc ls (.int y :: .int x :: rest)) := by
  cases hv
  exact va_mmin (index := idx) S.1 S.2.1 (by rw [S.2.2.1]; exact hl.1.symm) S.2.2.2.1 (S.2.2.2.2 _ hlk) (S.2.2.2.2 _ q514) (S.2.2.2.2 _ q87) (S.2.2.2.2 _ q515) hR.1 (by omega) hf.1 hf.2 hdg k
end JC_min
def J9_abs (x : Int32) : Option Int32 := some (if 0 ≤ x then x else 0 - x)
section JC_abs
variable {p : Program} {l : Launch} {e : Env} {R : Room} {s : State} {m : MethodId} {args : Array Value} {below : List Frame} {meth : Method} {c : Code} {H : Heap} {locs : List Loc} {cells slots : Nat} {Q : State → Prop}
variable {cc : ByteArray} {pc nL idx : Nat} {ls : Array Slot} {rest : List Value} {lv : List (Nat × Value)} {A : Nat → Prop} {H0 : Heap} {own : String}
theorem call_J9_abs {x z : Int32} (S : CallFix p m c cc nL s args lw_all own) (hl : lv_has ls nL lv) (hlk : Cond.methodLink own idx yJ9_abs ∈ lw_all) (hv : J9_abs x = some z) (hR : 1 ≤ R.frames ∧ 21 ≤ R.locals) (hsum : (rest.map fun v => v.category).sum ≤ 8) (hdg : decode cc pc = .ok (.invokestatic idx, 3)) (hf : cells ≤ R.cells ∧ slots ≤ R.slots) (k : W p l e R s m args below meth c H locs cells slots Q (F0 m (pc + 3) ls (.int z :: rest))) : W p l e R s m args below meth c H locs cells slots Q (F0 m pc ls (.int x :: rest)) := by
  cases hv
  exact va_mabs (index := idx) S.1 S.2.1 (by rw [S.2.2.1]; exact hl.1.symm) S.2.2.2.1 (S.2.2.2.2 _ hlk) (S.2.2.2.2 _ q534) (S.2.2.2.2 _ q87) (S.2.2.2.2 _ q535) hR.1 (by omega) hf.1 hf.2 hdg k
end JC_abs
