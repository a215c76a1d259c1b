/-! the twin's world: its object and its arrays -/
set_option maxRecDepth 100000
def WMf (h : Nat → Nat) (st : MS) : List Value := [.ref (h 1), .ref (h 2), .ref (h 3), .ref (h 4), .ref (h 5), .ref (h 6), .ref (h 7), .ref (h 8), .int (mi st 0), .int (mi st 1), .long (ml st 0), .long (ml st 1), .ref (h 9), .ref (h 10), .int (mi st 2), .ref (h 11), .ref (h 12)]
def WM (ct : Nat → ClassId) (h : Nat → Nat) (st : MS) : va_W × Prop := ([(h 0, .inr (1, WMf h st)), (h 1, .inl (ct 0, 84, .inl (ma st 0))), (h 2, .inl (ct 0, 252, .inl (ma st 1))), (h 3, .inl (ct 1, 3, .inl (ma st 2))), (h 4, .inl (ct 0, 240, .inl (ma st 3))), (h 5, .inl (ct 0, 6, .inl (ma st 4))), (h 6, .inl (ct 0, 240, .inl (ma st 5))), (h 7, .inl (ct 0, 4, .inl (ma st 6))), (h 8, .inl (ct 0, 6, .inl (ma st 7))), (h 9, .inl (ct 0, 40, .inl (ma st 8))), (h 10, .inl (ct 0, 84, .inl (ma st 9))), (h 11, .inl (ct 0, 32, .inl (ma st 10))), (h 12, .inl (ct 0, 32, .inl (ma st 11)))], True)
def mAs (h : Nat → Nat) : List Nat := [h 0, h 1, h 2, h 3, h 4, h 5, h 6, h 7, h 8, h 9, h 10, h 11, h 12]
section MW
variable {p : Program} {l : Launch} {e : Env} {R : Room} {s : State} {m : MethodId} {args : Array Value} {below : List Frame} {meth : Method} {c : Code} {H : Heap} {locs : List Loc} {cells slots : Nat} {Q : State → Prop}
variable {cc : ByteArray} {pc nL : Nat} {ls : Array Slot} {rest : List Value} {D : va_G} {ct : Nat → ClassId} {A : Nat → Prop} {H0 : Heap} {h : Nat → Nat} {st st1 : MS} {i x v : Int32}
theorem mg_now (S : CallFix p m c cc nL s args lw_all RX1) (hK : va_K D clA (tysG ct) s) (hH : GH D A (mAs h) H0 (WM ct h st) H locs) (hdg : decode cc pc = .ok (.getfield 7, 3)) (k : W p l e R s m args below meth c H locs cells slots Q (F0 m (pc + 3) ls (.ref (h 1) :: rest))) : W p l e R s m args below meth c H locs cells slots Q (F0 m pc ls (.ref (h 0) :: rest)) :=
  va_get (D := D) (cl := clA) (ci := 1) (v := .ref (h 1)) (C := RX1) (T := TX1) (N := 17) S.1 S.2.1 S.2.2.2.2 in_X1 S.2.2.2.1 hK hH.1 0 rfl rfl 0 (by decide) (S.2.2.2.2 _ q913) (fun _ h9 => h9) rfl hdg k
theorem mg_kept (S : CallFix p m c cc nL s args lw_all RX1) (hK : va_K D clA (tysG ct) s) (hH : GH D A (mAs h) H0 (WM ct h st) H locs) (hdg : decode cc pc = .ok (.getfield 13, 3)) (k : W p l e R s m args below meth c H locs cells slots Q (F0 m (pc + 3) ls (.ref (h 2) :: rest))) : W p l e R s m args below meth c H locs cells slots Q (F0 m pc ls (.ref (h 0) :: rest)) :=
  va_get (D := D) (cl := clA) (ci := 1) (v := .ref (h 2)) (C := RX1) (T := TX1) (N := 17) S.1 S.2.1 S.2.2.2.2 in_X1 S.2.2.2.1 hK hH.1 0 rfl rfl 1 (by decide) (S.2.2.2.2 _ q914) (fun _ h9 => h9) rfl hdg k
theorem mg_isKept (S : CallFix p m c cc nL s args lw_all RX1) (hK : va_K D clA (tysG ct) s) (hH : GH D A (mAs h) H0 (WM ct h st) H locs) (hdg : decode cc pc = .ok (.getfield 16, 3)) (k : W p l e R s m args below meth c H locs cells slots Q (F0 m (pc + 3) ls (.ref (h 3) :: rest))) : W p l e R s m args below meth c H locs cells slots Q (F0 m pc ls (.ref (h 0) :: rest)) :=
  va_get (D := D) (cl := clA) (ci := 1) (v := .ref (h 3)) (C := RX1) (T := TX1) (N := 17) S.1 S.2.1 S.2.2.2.2 in_X1 S.2.2.2.1 hK hH.1 0 rfl rfl 2 (by decide) (S.2.2.2.2 _ q915) (fun _ h9 => h9) rfl hdg k
theorem mg_rows (S : CallFix p m c cc nL s args lw_all RX1) (hK : va_K D clA (tysG ct) s) (hH : GH D A (mAs h) H0 (WM ct h st) H locs) (hdg : decode cc pc = .ok (.getfield 20, 3)) (k : W p l e R s m args below meth c H locs cells slots Q (F0 m (pc + 3) ls (.ref (h 4) :: rest))) : W p l e R s m args below meth c H locs cells slots Q (F0 m pc ls (.ref (h 0) :: rest)) :=
  va_get (D := D) (cl := clA) (ci := 1) (v := .ref (h 4)) (C := RX1) (T := TX1) (N := 17) S.1 S.2.1 S.2.2.2.2 in_X1 S.2.2.2.1 hK hH.1 0 rfl rfl 3 (by decide) (S.2.2.2.2 _ q916) (fun _ h9 => h9) rfl hdg k
theorem mg_rowLong (S : CallFix p m c cc nL s args lw_all RX1) (hK : va_K D clA (tysG ct) s) (hH : GH D A (mAs h) H0 (WM ct h st) H locs) (hdg : decode cc pc = .ok (.getfield 23, 3)) (k : W p l e R s m args below meth c H locs cells slots Q (F0 m (pc + 3) ls (.ref (h 5) :: rest))) : W p l e R s m args below meth c H locs cells slots Q (F0 m pc ls (.ref (h 0) :: rest)) :=
  va_get (D := D) (cl := clA) (ci := 1) (v := .ref (h 5)) (C := RX1) (T := TX1) (N := 17) S.1 S.2.1 S.2.2.2.2 in_X1 S.2.2.2.1 hK hH.1 0 rfl rfl 4 (by decide) (S.2.2.2.2 _ q917) (fun _ h9 => h9) rfl hdg k
theorem mg_texts (S : CallFix p m c cc nL s args lw_all RX1) (hK : va_K D clA (tysG ct) s) (hH : GH D A (mAs h) H0 (WM ct h st) H locs) (hdg : decode cc pc = .ok (.getfield 26, 3)) (k : W p l e R s m args below meth c H locs cells slots Q (F0 m (pc + 3) ls (.ref (h 6) :: rest))) : W p l e R s m args below meth c H locs cells slots Q (F0 m pc ls (.ref (h 0) :: rest)) :=
  va_get (D := D) (cl := clA) (ci := 1) (v := .ref (h 6)) (C := RX1) (T := TX1) (N := 17) S.1 S.2.1 S.2.2.2.2 in_X1 S.2.2.2.1 hK hH.1 0 rfl rfl 5 (by decide) (S.2.2.2.2 _ q918) (fun _ h9 => h9) rfl hdg k
theorem mg_textLong (S : CallFix p m c cc nL s args lw_all RX1) (hK : va_K D clA (tysG ct) s) (hH : GH D A (mAs h) H0 (WM ct h st) H locs) (hdg : decode cc pc = .ok (.getfield 29, 3)) (k : W p l e R s m args below meth c H locs cells slots Q (F0 m (pc + 3) ls (.ref (h 7) :: rest))) : W p l e R s m args below meth c H locs cells slots Q (F0 m pc ls (.ref (h 0) :: rest)) :=
  va_get (D := D) (cl := clA) (ci := 1) (v := .ref (h 7)) (C := RX1) (T := TX1) (N := 17) S.1 S.2.1 S.2.2.2.2 in_X1 S.2.2.2.1 hK hH.1 0 rfl rfl 6 (by decide) (S.2.2.2.2 _ q919) (fun _ h9 => h9) rfl hdg k
theorem mg_found (S : CallFix p m c cc nL s args lw_all RX1) (hK : va_K D clA (tysG ct) s) (hH : GH D A (mAs h) H0 (WM ct h st) H locs) (hdg : decode cc pc = .ok (.getfield 32, 3)) (k : W p l e R s m args below meth c H locs cells slots Q (F0 m (pc + 3) ls (.ref (h 8) :: rest))) : W p l e R s m args below meth c H locs cells slots Q (F0 m pc ls (.ref (h 0) :: rest)) :=
  va_get (D := D) (cl := clA) (ci := 1) (v := .ref (h 8)) (C := RX1) (T := TX1) (N := 17) S.1 S.2.1 S.2.2.2.2 in_X1 S.2.2.2.1 hK hH.1 0 rfl rfl 7 (by decide) (S.2.2.2.2 _ q920) (fun _ h9 => h9) rfl hdg k
theorem mg_latest (S : CallFix p m c cc nL s args lw_all RX1) (hK : va_K D clA (tysG ct) s) (hH : GH D A (mAs h) H0 (WM ct h st) H locs) (hdg : decode cc pc = .ok (.getfield 51, 3)) (k : W p l e R s m args below meth c H locs cells slots Q (F0 m (pc + 3) ls (.int (mi st 0) :: rest))) : W p l e R s m args below meth c H locs cells slots Q (F0 m pc ls (.ref (h 0) :: rest)) :=
  va_get (D := D) (cl := clA) (ci := 1) (v := .int (mi st 0)) (C := RX1) (T := TX1) (N := 17) S.1 S.2.1 S.2.2.2.2 in_X1 S.2.2.2.1 hK hH.1 0 rfl rfl 8 (by decide) (S.2.2.2.2 _ q921) (fun _ h9 => h9) rfl hdg k
theorem mp_latest (S : CallFix p m c cc nL s args lw_all RX1) (hK : va_K D clA (tysG ct) s) (hH : GH D A (mAs h) H0 (WM ct h st) H locs) (hdg : decode cc pc = .ok (.putfield 51, 3)) (he : st1 = smi st 0 x) (k : ∀ (H1 : Heap) (locs1 : List Loc), GH D A (mAs h) H0 (WM ct h st1) H1 locs1 → W p l e R s m args below meth c H1 locs1 cells slots Q (F0 m (pc + 3) ls (rest))) : W p l e R s m args below meth c H locs cells slots Q (F0 m pc ls (.int x :: .ref (h 0) :: rest)) := by
  subst he
  refine va_put (D := D) (cl := clA) (ci := 1) (v := .int x) (ty := .int) (C := RX1) (T := TX1) (N := 17) S.1 S.2.1 S.2.2.2.2 in_X1 tyX1 tyX1_ok nmX1 S.2.2.2.1 hK hH.1 hH.D hH.2.2.1 0 rfl rfl 8 (by decide) (S.2.2.2.2 _ q921) (fun _ h9 => h9) rfl (by decide +kernel) rfl rfl (Nat.le_of_ble_eq_true rfl) hdg (fun H1 locs1 hP hD hS => ?_)
  exact k H1 locs1 ⟨hP, va_D.set hH.2.1 (p := 0) rfl, hS, hH.2.2.2⟩
theorem mg_askedIs (S : CallFix p m c cc nL s args lw_all RX1) (hK : va_K D clA (tysG ct) s) (hH : GH D A (mAs h) H0 (WM ct h st) H locs) (hdg : decode cc pc = .ok (.getfield 55, 3)) (k : W p l e R s m args below meth c H locs cells slots Q (F0 m (pc + 3) ls (.int (mi st 1) :: rest))) : W p l e R s m args below meth c H locs cells slots Q (F0 m pc ls (.ref (h 0) :: rest)) :=
  va_get (D := D) (cl := clA) (ci := 1) (v := .int (mi st 1)) (C := RX1) (T := TX1) (N := 17) S.1 S.2.1 S.2.2.2.2 in_X1 S.2.2.2.1 hK hH.1 0 rfl rfl 9 (by decide) (S.2.2.2.2 _ q922) (fun _ h9 => h9) rfl hdg k
theorem mp_askedIs (S : CallFix p m c cc nL s args lw_all RX1) (hK : va_K D clA (tysG ct) s) (hH : GH D A (mAs h) H0 (WM ct h st) H locs) (hdg : decode cc pc = .ok (.putfield 55, 3)) (he : st1 = smi st 1 x) (k : ∀ (H1 : Heap) (locs1 : List Loc), GH D A (mAs h) H0 (WM ct h st1) H1 locs1 → W p l e R s m args below meth c H1 locs1 cells slots Q (F0 m (pc + 3) ls (rest))) : W p l e R s m args below meth c H locs cells slots Q (F0 m pc ls (.int x :: .ref (h 0) :: rest)) := by
  subst he
  refine va_put (D := D) (cl := clA) (ci := 1) (v := .int x) (ty := .int) (C := RX1) (T := TX1) (N := 17) S.1 S.2.1 S.2.2.2.2 in_X1 tyX1 tyX1_ok nmX1 S.2.2.2.1 hK hH.1 hH.D hH.2.2.1 0 rfl rfl 9 (by decide) (S.2.2.2.2 _ q922) (fun _ h9 => h9) rfl (by decide +kernel) rfl rfl (Nat.le_of_ble_eq_true rfl) hdg (fun H1 locs1 hP hD hS => ?_)
  exact k H1 locs1 ⟨hP, va_D.set hH.2.1 (p := 0) rfl, hS, hH.2.2.2⟩
theorem mg_above (S : CallFix p m c cc nL s args lw_all RX1) (hK : va_K D clA (tysG ct) s) (hH : GH D A (mAs h) H0 (WM ct h st) H locs) (hdg : decode cc pc = .ok (.getfield 227, 3)) (k : W p l e R s m args below meth c H locs cells slots Q (F0 m (pc + 3) ls (.long (ml st 0) :: rest))) : W p l e R s m args below meth c H locs cells slots Q (F0 m pc ls (.ref (h 0) :: rest)) :=
  va_get (D := D) (cl := clA) (ci := 1) (v := .long (ml st 0)) (C := RX1) (T := TX1) (N := 17) S.1 S.2.1 S.2.2.2.2 in_X1 S.2.2.2.1 hK hH.1 0 rfl rfl 10 (by decide) (S.2.2.2.2 _ q923) (fun _ h9 => h9) rfl hdg k
theorem mp_above {y : Int64} (S : CallFix p m c cc nL s args lw_all RX1) (hK : va_K D clA (tysG ct) s) (hH : GH D A (mAs h) H0 (WM ct h st) H locs) (hdg : decode cc pc = .ok (.putfield 227, 3)) (he : st1 = sml st 0 y) (k : ∀ (H1 : Heap) (locs1 : List Loc), GH D A (mAs h) H0 (WM ct h st1) H1 locs1 → W p l e R s m args below meth c H1 locs1 cells slots Q (F0 m (pc + 3) ls (rest))) : W p l e R s m args below meth c H locs cells slots Q (F0 m pc ls (.long y :: .ref (h 0) :: rest)) := by
  subst he
  refine va_put (D := D) (cl := clA) (ci := 1) (v := .long y) (ty := .long) (C := RX1) (T := TX1) (N := 17) S.1 S.2.1 S.2.2.2.2 in_X1 tyX1 tyX1_ok nmX1 S.2.2.2.1 hK hH.1 hH.D hH.2.2.1 0 rfl rfl 10 (by decide) (S.2.2.2.2 _ q923) (fun _ h9 => h9) rfl (by decide +kernel) rfl rfl (Nat.le_of_ble_eq_true rfl) hdg (fun H1 locs1 hP hD hS => ?_)
  exact k H1 locs1 ⟨hP, va_D.set hH.2.1 (p := 0) rfl, hS, hH.2.2.2⟩
theorem mg_below (S : CallFix p m c cc nL s args lw_all RX1) (hK : va_K D clA (tysG ct) s) (hH : GH D A (mAs h) H0 (WM ct h st) H locs) (hdg : decode cc pc = .ok (.getfield 35, 3)) (k : W p l e R s m args below meth c H locs cells slots Q (F0 m (pc + 3) ls (.long (ml st 1) :: rest))) : W p l e R s m args below meth c H locs cells slots Q (F0 m pc ls (.ref (h 0) :: rest)) :=
  va_get (D := D) (cl := clA) (ci := 1) (v := .long (ml st 1)) (C := RX1) (T := TX1) (N := 17) S.1 S.2.1 S.2.2.2.2 in_X1 S.2.2.2.1 hK hH.1 0 rfl rfl 11 (by decide) (S.2.2.2.2 _ q924) (fun _ h9 => h9) rfl hdg k
theorem mp_below {y : Int64} (S : CallFix p m c cc nL s args lw_all RX1) (hK : va_K D clA (tysG ct) s) (hH : GH D A (mAs h) H0 (WM ct h st) H locs) (hdg : decode cc pc = .ok (.putfield 35, 3)) (he : st1 = sml st 1 y) (k : ∀ (H1 : Heap) (locs1 : List Loc), GH D A (mAs h) H0 (WM ct h st1) H1 locs1 → W p l e R s m args below meth c H1 locs1 cells slots Q (F0 m (pc + 3) ls (rest))) : W p l e R s m args below meth c H locs cells slots Q (F0 m pc ls (.long y :: .ref (h 0) :: rest)) := by
  subst he
  refine va_put (D := D) (cl := clA) (ci := 1) (v := .long y) (ty := .long) (C := RX1) (T := TX1) (N := 17) S.1 S.2.1 S.2.2.2.2 in_X1 tyX1 tyX1_ok nmX1 S.2.2.2.1 hK hH.1 hH.D hH.2.2.1 0 rfl rfl 11 (by decide) (S.2.2.2.2 _ q924) (fun _ h9 => h9) rfl (by decide +kernel) rfl rfl (Nat.le_of_ble_eq_true rfl) hdg (fun H1 locs1 hP hD hS => ?_)
  exact k H1 locs1 ⟨hP, va_D.set hH.2.1 (p := 0) rfl, hS, hH.2.2.2⟩
theorem mg_taken (S : CallFix p m c cc nL s args lw_all RX1) (hK : va_K D clA (tysG ct) s) (hH : GH D A (mAs h) H0 (WM ct h st) H locs) (hdg : decode cc pc = .ok (.getfield 39, 3)) (k : W p l e R s m args below meth c H locs cells slots Q (F0 m (pc + 3) ls (.ref (h 9) :: rest))) : W p l e R s m args below meth c H locs cells slots Q (F0 m pc ls (.ref (h 0) :: rest)) :=
  va_get (D := D) (cl := clA) (ci := 1) (v := .ref (h 9)) (C := RX1) (T := TX1) (N := 17) S.1 S.2.1 S.2.2.2.2 in_X1 S.2.2.2.1 hK hH.1 0 rfl rfl 12 (by decide) (S.2.2.2.2 _ q925) (fun _ h9 => h9) rfl hdg k
theorem mg_anew (S : CallFix p m c cc nL s args lw_all RX1) (hK : va_K D clA (tysG ct) s) (hH : GH D A (mAs h) H0 (WM ct h st) H locs) (hdg : decode cc pc = .ok (.getfield 42, 3)) (k : W p l e R s m args below meth c H locs cells slots Q (F0 m (pc + 3) ls (.ref (h 10) :: rest))) : W p l e R s m args below meth c H locs cells slots Q (F0 m pc ls (.ref (h 0) :: rest)) :=
  va_get (D := D) (cl := clA) (ci := 1) (v := .ref (h 10)) (C := RX1) (T := TX1) (N := 17) S.1 S.2.1 S.2.2.2.2 in_X1 S.2.2.2.1 hK hH.1 0 rfl rfl 13 (by decide) (S.2.2.2.2 _ q926) (fun _ h9 => h9) rfl hdg k
theorem mg_place (S : CallFix p m c cc nL s args lw_all RX1) (hK : va_K D clA (tysG ct) s) (hH : GH D A (mAs h) H0 (WM ct h st) H locs) (hdg : decode cc pc = .ok (.getfield 84, 3)) (k : W p l e R s m args below meth c H locs cells slots Q (F0 m (pc + 3) ls (.int (mi st 2) :: rest))) : W p l e R s m args below meth c H locs cells slots Q (F0 m pc ls (.ref (h 0) :: rest)) :=
  va_get (D := D) (cl := clA) (ci := 1) (v := .int (mi st 2)) (C := RX1) (T := TX1) (N := 17) S.1 S.2.1 S.2.2.2.2 in_X1 S.2.2.2.1 hK hH.1 0 rfl rfl 14 (by decide) (S.2.2.2.2 _ q927) (fun _ h9 => h9) rfl hdg k
theorem mp_place (S : CallFix p m c cc nL s args lw_all RX1) (hK : va_K D clA (tysG ct) s) (hH : GH D A (mAs h) H0 (WM ct h st) H locs) (hdg : decode cc pc = .ok (.putfield 84, 3)) (he : st1 = smi st 2 x) (k : ∀ (H1 : Heap) (locs1 : List Loc), GH D A (mAs h) H0 (WM ct h st1) H1 locs1 → W p l e R s m args below meth c H1 locs1 cells slots Q (F0 m (pc + 3) ls (rest))) : W p l e R s m args below meth c H locs cells slots Q (F0 m pc ls (.int x :: .ref (h 0) :: rest)) := by
  subst he
  refine va_put (D := D) (cl := clA) (ci := 1) (v := .int x) (ty := .int) (C := RX1) (T := TX1) (N := 17) S.1 S.2.1 S.2.2.2.2 in_X1 tyX1 tyX1_ok nmX1 S.2.2.2.1 hK hH.1 hH.D hH.2.2.1 0 rfl rfl 14 (by decide) (S.2.2.2.2 _ q927) (fun _ h9 => h9) rfl (by decide +kernel) rfl rfl (Nat.le_of_ble_eq_true rfl) hdg (fun H1 locs1 hP hD hS => ?_)
  exact k H1 locs1 ⟨hP, va_D.set hH.2.1 (p := 0) rfl, hS, hH.2.2.2⟩
theorem mg_values (S : CallFix p m c cc nL s args lw_all RX1) (hK : va_K D clA (tysG ct) s) (hH : GH D A (mAs h) H0 (WM ct h st) H locs) (hdg : decode cc pc = .ok (.getfield 45, 3)) (k : W p l e R s m args below meth c H locs cells slots Q (F0 m (pc + 3) ls (.ref (h 11) :: rest))) : W p l e R s m args below meth c H locs cells slots Q (F0 m pc ls (.ref (h 0) :: rest)) :=
  va_get (D := D) (cl := clA) (ci := 1) (v := .ref (h 11)) (C := RX1) (T := TX1) (N := 17) S.1 S.2.1 S.2.2.2.2 in_X1 S.2.2.2.1 hK hH.1 0 rfl rfl 15 (by decide) (S.2.2.2.2 _ q928) (fun _ h9 => h9) rfl hdg k
theorem mg_ahead (S : CallFix p m c cc nL s args lw_all RX1) (hK : va_K D clA (tysG ct) s) (hH : GH D A (mAs h) H0 (WM ct h st) H locs) (hdg : decode cc pc = .ok (.getfield 48, 3)) (k : W p l e R s m args below meth c H locs cells slots Q (F0 m (pc + 3) ls (.ref (h 12) :: rest))) : W p l e R s m args below meth c H locs cells slots Q (F0 m pc ls (.ref (h 0) :: rest)) :=
  va_get (D := D) (cl := clA) (ci := 1) (v := .ref (h 12)) (C := RX1) (T := TX1) (N := 17) S.1 S.2.1 S.2.2.2.2 in_X1 S.2.2.2.1 hK hH.1 0 rfl rfl 16 (by decide) (S.2.2.2.2 _ q929) (fun _ h9 => h9) rfl hdg k
theorem ml_now (S : CallFix p m c cc nL s args lw_all RX1) (hK : va_K D clA (tysG ct) s) (hH : GH D A (mAs h) H0 (WM ct h st) H locs) (hv : bs_ld (ma st 0) 84 i = some v) (hdg : decode cc pc = .ok (.iaload, 1)) (k : W p l e R s m args below meth c H locs cells slots Q (F0 m (pc + 1) ls (.int v :: rest))) : W p l e R s m args below meth c H locs cells slots Q (F0 m pc ls (.int i :: .ref (h 1) :: rest)) := by
  obtain ⟨h1, h2⟩ := bs_ld_spec hv
  refine va_iald (cl := clA) S.1 S.2.1 hK hH.1 1 0 rfl rfl h1 hdg ?_
  rw [h2]
  exact k
theorem ms_now (S : CallFix p m c cc nL s args lw_all RX1) (hK : va_K D clA (tysG ct) s) (hH : GH D A (mAs h) H0 (WM ct h st) H locs) (hv : mast st 0 84 i x = some st1) (hdg : decode cc pc = .ok (.iastore, 1)) (k : ∀ (H1 : Heap) (locs1 : List Loc), GH D A (mAs h) H0 (WM ct h st1) H1 locs1 → W p l e R s m args below meth c H1 locs1 cells slots Q (F0 m (pc + 1) ls (rest))) : W p l e R s m args below meth c H locs cells slots Q (F0 m pc ls (.int x :: .int i :: .ref (h 1) :: rest)) := by
  obtain ⟨h1, h2⟩ := mast_spec hv
  subst h2
  refine va_iast (cl := clA) S.1 S.2.1 hK hH.1 hH.D hH.2.2.1 1 0 rfl rfl h1 hdg (fun H1 locs1 hP hD hS => ?_)
  exact k H1 locs1 ⟨hP, va_D.set hH.2.1 (p := 1) rfl, hS, hH.2.2.2⟩
theorem ml_kept (S : CallFix p m c cc nL s args lw_all RX1) (hK : va_K D clA (tysG ct) s) (hH : GH D A (mAs h) H0 (WM ct h st) H locs) (hv : bs_ld (ma st 1) 252 i = some v) (hdg : decode cc pc = .ok (.iaload, 1)) (k : W p l e R s m args below meth c H locs cells slots Q (F0 m (pc + 1) ls (.int v :: rest))) : W p l e R s m args below meth c H locs cells slots Q (F0 m pc ls (.int i :: .ref (h 2) :: rest)) := by
  obtain ⟨h1, h2⟩ := bs_ld_spec hv
  refine va_iald (cl := clA) S.1 S.2.1 hK hH.1 2 0 rfl rfl h1 hdg ?_
  rw [h2]
  exact k
theorem ms_kept (S : CallFix p m c cc nL s args lw_all RX1) (hK : va_K D clA (tysG ct) s) (hH : GH D A (mAs h) H0 (WM ct h st) H locs) (hv : mast st 1 252 i x = some st1) (hdg : decode cc pc = .ok (.iastore, 1)) (k : ∀ (H1 : Heap) (locs1 : List Loc), GH D A (mAs h) H0 (WM ct h st1) H1 locs1 → W p l e R s m args below meth c H1 locs1 cells slots Q (F0 m (pc + 1) ls (rest))) : W p l e R s m args below meth c H locs cells slots Q (F0 m pc ls (.int x :: .int i :: .ref (h 2) :: rest)) := by
  obtain ⟨h1, h2⟩ := mast_spec hv
  subst h2
  refine va_iast (cl := clA) S.1 S.2.1 hK hH.1 hH.D hH.2.2.1 2 0 rfl rfl h1 hdg (fun H1 locs1 hP hD hS => ?_)
  exact k H1 locs1 ⟨hP, va_D.set hH.2.1 (p := 2) rfl, hS, hH.2.2.2⟩
theorem ml_isKept (S : CallFix p m c cc nL s args lw_all RX1) (hK : va_K D clA (tysG ct) s) (hH : GH D A (mAs h) H0 (WM ct h st) H locs) (hv : bs_ld (ma st 2) 3 i = some v) (hdg : decode cc pc = .ok (.baload, 1)) (k : W p l e R s m args below meth c H locs cells slots Q (F0 m (pc + 1) ls (.int v :: rest))) : W p l e R s m args below meth c H locs cells slots Q (F0 m pc ls (.int i :: .ref (h 3) :: rest)) := by
  obtain ⟨h1, h2⟩ := bs_ld_spec hv
  refine va_zald (cl := clA) S.1 S.2.1 hK hH.1 3 1 rfl rfl h1 hdg ?_
  rw [h2]
  exact k
theorem ms_isKept (S : CallFix p m c cc nL s args lw_all RX1) (hK : va_K D clA (tysG ct) s) (hH : GH D A (mAs h) H0 (WM ct h st) H locs) (hb1 : narrow .boolean (.int x) = .int x) (hv : mast st 2 3 i x = some st1) (hdg : decode cc pc = .ok (.bastore, 1)) (k : ∀ (H1 : Heap) (locs1 : List Loc), GH D A (mAs h) H0 (WM ct h st1) H1 locs1 → W p l e R s m args below meth c H1 locs1 cells slots Q (F0 m (pc + 1) ls (rest))) : W p l e R s m args below meth c H locs cells slots Q (F0 m pc ls (.int x :: .int i :: .ref (h 3) :: rest)) := by
  obtain ⟨h1, h2⟩ := mast_spec hv
  have hx : vp_nar .boolean x = x := by unfold vp_nar; rw [hb1]
  subst h2
  refine va_zast (cl := clA) S.1 S.2.1 hK hH.1 hH.D hH.2.2.1 3 1 rfl rfl h1 hdg (fun H1 locs1 hP hD hS => ?_)
  rw [hx] at hP
  exact k H1 locs1 ⟨hP, va_D.set hH.2.1 (p := 3) rfl, hS, hH.2.2.2⟩
theorem ml_rows (S : CallFix p m c cc nL s args lw_all RX1) (hK : va_K D clA (tysG ct) s) (hH : GH D A (mAs h) H0 (WM ct h st) H locs) (hv : bs_ld (ma st 3) 240 i = some v) (hdg : decode cc pc = .ok (.iaload, 1)) (k : W p l e R s m args below meth c H locs cells slots Q (F0 m (pc + 1) ls (.int v :: rest))) : W p l e R s m args below meth c H locs cells slots Q (F0 m pc ls (.int i :: .ref (h 4) :: rest)) := by
  obtain ⟨h1, h2⟩ := bs_ld_spec hv
  refine va_iald (cl := clA) S.1 S.2.1 hK hH.1 4 0 rfl rfl h1 hdg ?_
  rw [h2]
  exact k
theorem ms_rows (S : CallFix p m c cc nL s args lw_all RX1) (hK : va_K D clA (tysG ct) s) (hH : GH D A (mAs h) H0 (WM ct h st) H locs) (hv : mast st 3 240 i x = some st1) (hdg : decode cc pc = .ok (.iastore, 1)) (k : ∀ (H1 : Heap) (locs1 : List Loc), GH D A (mAs h) H0 (WM ct h st1) H1 locs1 → W p l e R s m args below meth c H1 locs1 cells slots Q (F0 m (pc + 1) ls (rest))) : W p l e R s m args below meth c H locs cells slots Q (F0 m pc ls (.int x :: .int i :: .ref (h 4) :: rest)) := by
  obtain ⟨h1, h2⟩ := mast_spec hv
  subst h2
  refine va_iast (cl := clA) S.1 S.2.1 hK hH.1 hH.D hH.2.2.1 4 0 rfl rfl h1 hdg (fun H1 locs1 hP hD hS => ?_)
  exact k H1 locs1 ⟨hP, va_D.set hH.2.1 (p := 4) rfl, hS, hH.2.2.2⟩
theorem ml_rowLong (S : CallFix p m c cc nL s args lw_all RX1) (hK : va_K D clA (tysG ct) s) (hH : GH D A (mAs h) H0 (WM ct h st) H locs) (hv : bs_ld (ma st 4) 6 i = some v) (hdg : decode cc pc = .ok (.iaload, 1)) (k : W p l e R s m args below meth c H locs cells slots Q (F0 m (pc + 1) ls (.int v :: rest))) : W p l e R s m args below meth c H locs cells slots Q (F0 m pc ls (.int i :: .ref (h 5) :: rest)) := by
  obtain ⟨h1, h2⟩ := bs_ld_spec hv
  refine va_iald (cl := clA) S.1 S.2.1 hK hH.1 5 0 rfl rfl h1 hdg ?_
  rw [h2]
  exact k
theorem ms_rowLong (S : CallFix p m c cc nL s args lw_all RX1) (hK : va_K D clA (tysG ct) s) (hH : GH D A (mAs h) H0 (WM ct h st) H locs) (hv : mast st 4 6 i x = some st1) (hdg : decode cc pc = .ok (.iastore, 1)) (k : ∀ (H1 : Heap) (locs1 : List Loc), GH D A (mAs h) H0 (WM ct h st1) H1 locs1 → W p l e R s m args below meth c H1 locs1 cells slots Q (F0 m (pc + 1) ls (rest))) : W p l e R s m args below meth c H locs cells slots Q (F0 m pc ls (.int x :: .int i :: .ref (h 5) :: rest)) := by
  obtain ⟨h1, h2⟩ := mast_spec hv
  subst h2
  refine va_iast (cl := clA) S.1 S.2.1 hK hH.1 hH.D hH.2.2.1 5 0 rfl rfl h1 hdg (fun H1 locs1 hP hD hS => ?_)
  exact k H1 locs1 ⟨hP, va_D.set hH.2.1 (p := 5) rfl, hS, hH.2.2.2⟩
theorem ml_texts (S : CallFix p m c cc nL s args lw_all RX1) (hK : va_K D clA (tysG ct) s) (hH : GH D A (mAs h) H0 (WM ct h st) H locs) (hv : bs_ld (ma st 5) 240 i = some v) (hdg : decode cc pc = .ok (.iaload, 1)) (k : W p l e R s m args below meth c H locs cells slots Q (F0 m (pc + 1) ls (.int v :: rest))) : W p l e R s m args below meth c H locs cells slots Q (F0 m pc ls (.int i :: .ref (h 6) :: rest)) := by
  obtain ⟨h1, h2⟩ := bs_ld_spec hv
  refine va_iald (cl := clA) S.1 S.2.1 hK hH.1 6 0 rfl rfl h1 hdg ?_
  rw [h2]
  exact k
theorem ms_texts (S : CallFix p m c cc nL s args lw_all RX1) (hK : va_K D clA (tysG ct) s) (hH : GH D A (mAs h) H0 (WM ct h st) H locs) (hv : mast st 5 240 i x = some st1) (hdg : decode cc pc = .ok (.iastore, 1)) (k : ∀ (H1 : Heap) (locs1 : List Loc), GH D A (mAs h) H0 (WM ct h st1) H1 locs1 → W p l e R s m args below meth c H1 locs1 cells slots Q (F0 m (pc + 1) ls (rest))) : W p l e R s m args below meth c H locs cells slots Q (F0 m pc ls (.int x :: .int i :: .ref (h 6) :: rest)) := by
  obtain ⟨h1, h2⟩ := mast_spec hv
  subst h2
  refine va_iast (cl := clA) S.1 S.2.1 hK hH.1 hH.D hH.2.2.1 6 0 rfl rfl h1 hdg (fun H1 locs1 hP hD hS => ?_)
  exact k H1 locs1 ⟨hP, va_D.set hH.2.1 (p := 6) rfl, hS, hH.2.2.2⟩
theorem ml_textLong (S : CallFix p m c cc nL s args lw_all RX1) (hK : va_K D clA (tysG ct) s) (hH : GH D A (mAs h) H0 (WM ct h st) H locs) (hv : bs_ld (ma st 6) 4 i = some v) (hdg : decode cc pc = .ok (.iaload, 1)) (k : W p l e R s m args below meth c H locs cells slots Q (F0 m (pc + 1) ls (.int v :: rest))) : W p l e R s m args below meth c H locs cells slots Q (F0 m pc ls (.int i :: .ref (h 7) :: rest)) := by
  obtain ⟨h1, h2⟩ := bs_ld_spec hv
  refine va_iald (cl := clA) S.1 S.2.1 hK hH.1 7 0 rfl rfl h1 hdg ?_
  rw [h2]
  exact k
theorem ms_textLong (S : CallFix p m c cc nL s args lw_all RX1) (hK : va_K D clA (tysG ct) s) (hH : GH D A (mAs h) H0 (WM ct h st) H locs) (hv : mast st 6 4 i x = some st1) (hdg : decode cc pc = .ok (.iastore, 1)) (k : ∀ (H1 : Heap) (locs1 : List Loc), GH D A (mAs h) H0 (WM ct h st1) H1 locs1 → W p l e R s m args below meth c H1 locs1 cells slots Q (F0 m (pc + 1) ls (rest))) : W p l e R s m args below meth c H locs cells slots Q (F0 m pc ls (.int x :: .int i :: .ref (h 7) :: rest)) := by
  obtain ⟨h1, h2⟩ := mast_spec hv
  subst h2
  refine va_iast (cl := clA) S.1 S.2.1 hK hH.1 hH.D hH.2.2.1 7 0 rfl rfl h1 hdg (fun H1 locs1 hP hD hS => ?_)
  exact k H1 locs1 ⟨hP, va_D.set hH.2.1 (p := 7) rfl, hS, hH.2.2.2⟩
theorem ml_found (S : CallFix p m c cc nL s args lw_all RX1) (hK : va_K D clA (tysG ct) s) (hH : GH D A (mAs h) H0 (WM ct h st) H locs) (hv : bs_ld (ma st 7) 6 i = some v) (hdg : decode cc pc = .ok (.iaload, 1)) (k : W p l e R s m args below meth c H locs cells slots Q (F0 m (pc + 1) ls (.int v :: rest))) : W p l e R s m args below meth c H locs cells slots Q (F0 m pc ls (.int i :: .ref (h 8) :: rest)) := by
  obtain ⟨h1, h2⟩ := bs_ld_spec hv
  refine va_iald (cl := clA) S.1 S.2.1 hK hH.1 8 0 rfl rfl h1 hdg ?_
  rw [h2]
  exact k
theorem ms_found (S : CallFix p m c cc nL s args lw_all RX1) (hK : va_K D clA (tysG ct) s) (hH : GH D A (mAs h) H0 (WM ct h st) H locs) (hv : mast st 7 6 i x = some st1) (hdg : decode cc pc = .ok (.iastore, 1)) (k : ∀ (H1 : Heap) (locs1 : List Loc), GH D A (mAs h) H0 (WM ct h st1) H1 locs1 → W p l e R s m args below meth c H1 locs1 cells slots Q (F0 m (pc + 1) ls (rest))) : W p l e R s m args below meth c H locs cells slots Q (F0 m pc ls (.int x :: .int i :: .ref (h 8) :: rest)) := by
  obtain ⟨h1, h2⟩ := mast_spec hv
  subst h2
  refine va_iast (cl := clA) S.1 S.2.1 hK hH.1 hH.D hH.2.2.1 8 0 rfl rfl h1 hdg (fun H1 locs1 hP hD hS => ?_)
  exact k H1 locs1 ⟨hP, va_D.set hH.2.1 (p := 8) rfl, hS, hH.2.2.2⟩
theorem ml_taken (S : CallFix p m c cc nL s args lw_all RX1) (hK : va_K D clA (tysG ct) s) (hH : GH D A (mAs h) H0 (WM ct h st) H locs) (hv : bs_ld (ma st 8) 40 i = some v) (hdg : decode cc pc = .ok (.iaload, 1)) (k : W p l e R s m args below meth c H locs cells slots Q (F0 m (pc + 1) ls (.int v :: rest))) : W p l e R s m args below meth c H locs cells slots Q (F0 m pc ls (.int i :: .ref (h 9) :: rest)) := by
  obtain ⟨h1, h2⟩ := bs_ld_spec hv
  refine va_iald (cl := clA) S.1 S.2.1 hK hH.1 9 0 rfl rfl h1 hdg ?_
  rw [h2]
  exact k
theorem ms_taken (S : CallFix p m c cc nL s args lw_all RX1) (hK : va_K D clA (tysG ct) s) (hH : GH D A (mAs h) H0 (WM ct h st) H locs) (hv : mast st 8 40 i x = some st1) (hdg : decode cc pc = .ok (.iastore, 1)) (k : ∀ (H1 : Heap) (locs1 : List Loc), GH D A (mAs h) H0 (WM ct h st1) H1 locs1 → W p l e R s m args below meth c H1 locs1 cells slots Q (F0 m (pc + 1) ls (rest))) : W p l e R s m args below meth c H locs cells slots Q (F0 m pc ls (.int x :: .int i :: .ref (h 9) :: rest)) := by
  obtain ⟨h1, h2⟩ := mast_spec hv
  subst h2
  refine va_iast (cl := clA) S.1 S.2.1 hK hH.1 hH.D hH.2.2.1 9 0 rfl rfl h1 hdg (fun H1 locs1 hP hD hS => ?_)
  exact k H1 locs1 ⟨hP, va_D.set hH.2.1 (p := 9) rfl, hS, hH.2.2.2⟩
theorem ml_anew (S : CallFix p m c cc nL s args lw_all RX1) (hK : va_K D clA (tysG ct) s) (hH : GH D A (mAs h) H0 (WM ct h st) H locs) (hv : bs_ld (ma st 9) 84 i = some v) (hdg : decode cc pc = .ok (.iaload, 1)) (k : W p l e R s m args below meth c H locs cells slots Q (F0 m (pc + 1) ls (.int v :: rest))) : W p l e R s m args below meth c H locs cells slots Q (F0 m pc ls (.int i :: .ref (h 10) :: rest)) := by
  obtain ⟨h1, h2⟩ := bs_ld_spec hv
  refine va_iald (cl := clA) S.1 S.2.1 hK hH.1 10 0 rfl rfl h1 hdg ?_
  rw [h2]
  exact k
theorem ms_anew (S : CallFix p m c cc nL s args lw_all RX1) (hK : va_K D clA (tysG ct) s) (hH : GH D A (mAs h) H0 (WM ct h st) H locs) (hv : mast st 9 84 i x = some st1) (hdg : decode cc pc = .ok (.iastore, 1)) (k : ∀ (H1 : Heap) (locs1 : List Loc), GH D A (mAs h) H0 (WM ct h st1) H1 locs1 → W p l e R s m args below meth c H1 locs1 cells slots Q (F0 m (pc + 1) ls (rest))) : W p l e R s m args below meth c H locs cells slots Q (F0 m pc ls (.int x :: .int i :: .ref (h 10) :: rest)) := by
  obtain ⟨h1, h2⟩ := mast_spec hv
  subst h2
  refine va_iast (cl := clA) S.1 S.2.1 hK hH.1 hH.D hH.2.2.1 10 0 rfl rfl h1 hdg (fun H1 locs1 hP hD hS => ?_)
  exact k H1 locs1 ⟨hP, va_D.set hH.2.1 (p := 10) rfl, hS, hH.2.2.2⟩
theorem ml_values (S : CallFix p m c cc nL s args lw_all RX1) (hK : va_K D clA (tysG ct) s) (hH : GH D A (mAs h) H0 (WM ct h st) H locs) (hv : bs_ld (ma st 10) 32 i = some v) (hdg : decode cc pc = .ok (.iaload, 1)) (k : W p l e R s m args below meth c H locs cells slots Q (F0 m (pc + 1) ls (.int v :: rest))) : W p l e R s m args below meth c H locs cells slots Q (F0 m pc ls (.int i :: .ref (h 11) :: rest)) := by
  obtain ⟨h1, h2⟩ := bs_ld_spec hv
  refine va_iald (cl := clA) S.1 S.2.1 hK hH.1 11 0 rfl rfl h1 hdg ?_
  rw [h2]
  exact k
theorem ms_values (S : CallFix p m c cc nL s args lw_all RX1) (hK : va_K D clA (tysG ct) s) (hH : GH D A (mAs h) H0 (WM ct h st) H locs) (hv : mast st 10 32 i x = some st1) (hdg : decode cc pc = .ok (.iastore, 1)) (k : ∀ (H1 : Heap) (locs1 : List Loc), GH D A (mAs h) H0 (WM ct h st1) H1 locs1 → W p l e R s m args below meth c H1 locs1 cells slots Q (F0 m (pc + 1) ls (rest))) : W p l e R s m args below meth c H locs cells slots Q (F0 m pc ls (.int x :: .int i :: .ref (h 11) :: rest)) := by
  obtain ⟨h1, h2⟩ := mast_spec hv
  subst h2
  refine va_iast (cl := clA) S.1 S.2.1 hK hH.1 hH.D hH.2.2.1 11 0 rfl rfl h1 hdg (fun H1 locs1 hP hD hS => ?_)
  exact k H1 locs1 ⟨hP, va_D.set hH.2.1 (p := 11) rfl, hS, hH.2.2.2⟩
theorem ml_ahead (S : CallFix p m c cc nL s args lw_all RX1) (hK : va_K D clA (tysG ct) s) (hH : GH D A (mAs h) H0 (WM ct h st) H locs) (hv : bs_ld (ma st 11) 32 i = some v) (hdg : decode cc pc = .ok (.iaload, 1)) (k : W p l e R s m args below meth c H locs cells slots Q (F0 m (pc + 1) ls (.int v :: rest))) : W p l e R s m args below meth c H locs cells slots Q (F0 m pc ls (.int i :: .ref (h 12) :: rest)) := by
  obtain ⟨h1, h2⟩ := bs_ld_spec hv
  refine va_iald (cl := clA) S.1 S.2.1 hK hH.1 12 0 rfl rfl h1 hdg ?_
  rw [h2]
  exact k
theorem ms_ahead (S : CallFix p m c cc nL s args lw_all RX1) (hK : va_K D clA (tysG ct) s) (hH : GH D A (mAs h) H0 (WM ct h st) H locs) (hv : mast st 11 32 i x = some st1) (hdg : decode cc pc = .ok (.iastore, 1)) (k : ∀ (H1 : Heap) (locs1 : List Loc), GH D A (mAs h) H0 (WM ct h st1) H1 locs1 → W p l e R s m args below meth c H1 locs1 cells slots Q (F0 m (pc + 1) ls (rest))) : W p l e R s m args below meth c H locs cells slots Q (F0 m pc ls (.int x :: .int i :: .ref (h 12) :: rest)) := by
  obtain ⟨h1, h2⟩ := mast_spec hv
  subst h2
  refine va_iast (cl := clA) S.1 S.2.1 hK hH.1 hH.D hH.2.2.1 12 0 rfl rfl h1 hdg (fun H1 locs1 hP hD hS => ?_)
  exact k H1 locs1 ⟨hP, va_D.set hH.2.1 (p := 12) rfl, hS, hH.2.2.2⟩
theorem m_recv (hK : va_K D clA (tysG ct) s) (hH : GH D A (mAs h) H0 (WM ct h st) H locs) : ∃ cellB : Cell, H[h 0]? = some cellB ∧ cellB.vm.isStatics = false ∧ s.vm.findClass RX1 = some cellB.cls := va_recv hK hH.1 (ci := 1) (q0 := 0) rfl rfl
end MW
