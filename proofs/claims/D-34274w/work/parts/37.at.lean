set_option maxRecDepth 100000
/-! Trellis.at, behind -/
theorem wOf_le {cw ce : List Nat → Nat → Nat} {w : List Nat} {tag : Nat} : wOf cw ce w tag ≤ 9 := by
  by_cases h : tot (cw w) 5 = 0
  · cases hk : lastE ce w (many3 w) with
    | none => rw [wOf_n h hk]; decide
    | some k => rw [wOf_e h hk]; split <;> omega
  · rw [wOf_w h]; split <;> omega
theorem wtOf_le {cw ce : List Nat → Nat → Nat} {ws : List (List Nat)} {lk : Nat → Option Nat} {i j : Nat} : wtOf cw ce ws lk i j ≤ 9 := by
  unfold wtOf
  split
  · exact wOf_le
  · decide
theorem sOf_le {st : Nat → Nat → Nat} {fi : Nat → Nat} {from' : Option Nat} {to : Nat} : sOf st fi from' to ≤ 7 ∧ 1 ≤ sOf st fi from' to := by
  unfold sOf
  split <;> split <;> omega
theorem c_X9_at (l : Launch) (E : GE) (h : HV) {r T n i tag : Nat} {cw ce : List Nat → Nat → Nat} {st : Nat → Nat → Nat} {fi : Nat → Nat} {ws : List (List Nat)} {lk : Nat → Option Nat} {wt : Nat → Nat → Nat} (from' : Option Nat) (hR : TR E h r T n wt (fun i j => sOf st fi (some i) j)) (hQ : TQ E h T cw ce st fi ws lk) (hwt : ∀ i j, wt i j ≤ 9) (hn : n ≤ 5) (hi : i < n) (ht : tag < 5) (hf : ∀ k, from' = some k → k < 5) : Cg l E yX9_at cX9_at 4 (some .long) 2 0 0 [.ref r, .int (nI i), .int (nOf from'), .int (nI tag)] h (fun v h' => v = some (.long (lN (wt i tag * sOf st fi from' tag))) ∧ h = h') := by
  have hw9 := hwt i tag
  have hs7 := sOf_le (st := st) (fi := fi) (from' := from') (to := tag)
  obtain ⟨aW, aS, r1, ⟨g, m1, m2, m3⟩, ⟨g', k1, k2, k3⟩⟩ := hR
  obtain ⟨r0, row0, e1, e2, e3⟩ := m2 i hi
  refine Cg.of (by first | exact plainFor_of_name (by decide) | decide +kernel) [some (.ref r), some (.int (nI i)), some (.int (nOf from')), some (.int (nI tag))] (Nat.le_of_ble_eq_true rfl) rfl ?_
  intro p e s m args below meth c O
  refine g_aload_n O dX9_at_0 rfl (by first | rfl | exact rf_ref _) ?_
  refine g_get O 10 1 rfl r1 dX9_at_1 q1289 rfl (by decide) rfl rfl ?_
  refine g_iload_n O dX9_at_4 rfl ?_
  refine g_aaldA O 5 i rfl rfl hi (by omega) m1 dX9_at_5 ?_
  rw [e1]
  refine g_iload_n O dX9_at_6 rfl ?_
  refine g_iald O tag rfl ht (by decide) e2 dX9_at_7 ?_
  rw [e3 tag ht]
  refine g_i2l O dX9_at_8 ?_
  rw [nI_l (by omega)]
  refine g_iload_n O dX9_at_9 rfl ?_
  refine g_iconst O dX9_at_10 (-1) rfl ?_
  cases from' with
  | none =>
    refine g_icmp_ne O 26 dX9_at_11 (by decide) (fun hc => ?_) (fun hc => ?_)
    · exact absurd rfl hc
    · obtain ⟨aw, ae, ast, afi, ase, alo, cap, x4, x5, x8, li, row, q1, q2, q3, q4, q5, q6, q7, q8, q9, q10, q11, q12, q13, q14, q15, q16⟩ := hQ
      refine g_aload_n O dX9_at_14 rfl (by first | rfl | exact rf_ref _) ?_
      refine g_get O 10 3 rfl r1 dX9_at_15 q1291 rfl (by decide) rfl rfl ?_
      refine g_iconst O dX9_at_18 (-1) rfl ?_
      refine g_iload_n O dX9_at_19 rfl ?_
      refine g_callVN O (n := 2) (c_X1_stepOf l E h (from' := none) q1 q4 q5 (fun k hk => by cases hk) ht q15 q16) rfl rfl q1 dX9_at_20 q1286 q1263 qs14 q36 q1264 (by decide +kernel) rfl rfl (by first | decide | omega) (by decide) (by first | exact Nat.le_of_ble_eq_true rfl | omega) (by first | exact Nat.le_of_ble_eq_true rfl | omega) (by first | exact Nat.le_of_ble_eq_true rfl | omega) (fun v h1 hp => ?_)
      obtain ⟨rfl, rfl⟩ := hp
      refine g_goto O 34 dX9_at_23 (by decide) ?_
      refine g_i2l O dX9_at_34 ?_
      rw [nI_l (by omega)]
      refine g_lmul O dX9_at_35 ?_
      rw [lN_mul]
      exact g_lret O dX9_at_36 (by first | exact Nat.le_of_ble_eq_true rfl | omega) (by first | exact Nat.le_of_ble_eq_true rfl | omega) ⟨rfl, rfl⟩
  | some k =>
    have hk := hf k rfl
    obtain ⟨r2, row2, e4, e5, e6⟩ := k2 k hk
    refine g_icmp_ne O 26 dX9_at_11 (by decide) (fun hc => ?_) (fun hc => ?_)
    · refine g_aload_n O dX9_at_26 rfl (by first | rfl | exact rf_ref _) ?_
      refine g_get O 10 2 rfl r1 dX9_at_27 q1290 rfl (by decide) rfl rfl ?_
      refine g_iload_n O dX9_at_30 rfl ?_
      refine g_aaldA O 5 k rfl rfl hk (by decide) k1 dX9_at_31 ?_
      rw [e4]
      refine g_iload_n O dX9_at_32 rfl ?_
      refine g_iald O tag rfl ht (by decide) e5 dX9_at_33 ?_
      have e7 : row2 tag = nI (sOf st fi (some k) tag) := e6 tag ht
      rw [e7]
      refine g_i2l O dX9_at_34 ?_
      rw [nI_l (by omega)]
      refine g_lmul O dX9_at_35 ?_
      rw [lN_mul]
      exact g_lret O dX9_at_36 (by first | exact Nat.le_of_ble_eq_true rfl | omega) (by first | exact Nat.le_of_ble_eq_true rfl | omega) ⟨rfl, rfl⟩
    · exact absurd hc (nI_ne_neg (by omega))
/-- a long[n][5] with f -/
def LX (E : GE) (h : HV) (ls a n : Nat) (f : Nat → Nat → Nat) : Prop := ∃ g : Nat → Option Nat, h a = some (ls, cRows (aJJ E) n g) ∧ (∀ i, i < n → ∃ r row, g i = some r ∧ h r = some (ls, cLongs E 5 row) ∧ ∀ j, j < 5 → row j = lN (f i j)) ∧ ∀ i j r, i < n → j < n → g i = some r → g j = some r → i = j
theorem LX.fr {E : GE} {h h' : HV} {ls a n : Nat} {f : Nat → Nat → Nat} {S : List Nat} (F : Fr S h h') (h1 : ls ∉ S) (M : LX E h ls a n f) : LX E h' ls a n f := by
  obtain ⟨g, m1, m2, m3⟩ := M
  exact ⟨g, F _ _ m1 h1, fun i hi => (by obtain ⟨r, row, q1, q2, q3⟩ := m2 i hi; exact ⟨r, row, q1, F _ _ q2 h1, q3⟩), m3⟩
theorem LX.new {E : GE} {h : HV} {lab a n : Nat} : LX E (hmul h a n lab lab (cRows (aJJ E) n (fun j => if j < n then some (a + 1 + j) else none)) (.inl (aJ E, 5, .inr (.inl (fun _ => 0))))) lab a n (fun _ _ => 0) := by
  refine ⟨_, hmul_o, fun i hi => ⟨a + 1 + i, fun _ => 0, if_pos hi, hmul_i hi, fun j hj => rfl⟩, fun i j r hi hj e1 e2 => ?_⟩
  rw [if_pos hi] at e1
  rw [if_pos hj] at e2
  have := Option.some.inj (e1.trans e2.symm)
  omega
theorem rowsJ_ne {A B : ClassId} {n k la lb : Nat} {g : Nat → Option Nat} {f : Nat → Int64} : ((la, cRows A n g) : Nat × va_E) ≠ (lb, .inl (B, k, .inr (.inl f))) := fun z => by
  have h := congrArg (fun c : Nat × va_E => match c.2 with | .inl (_, _, .inr (.inl _)) => true | _ => false) z
  cases (show false = true from h)
theorem LX.set {E : GE} {h : HV} {ls a n i j r v : Nat} {f : Nat → Nat → Nat} {row row' : Nat → Int64} {g : Nat → Option Nat} (m1 : h a = some (ls, cRows (aJJ E) n g)) (m2 : ∀ i, i < n → ∃ r row, g i = some r ∧ h r = some (ls, cLongs E 5 row) ∧ ∀ j, j < 5 → row j = lN (f i j)) (m3 : ∀ i j r, i < n → j < n → g i = some r → g j = some r → i = j) (hi : i < n) (hr : g i = some r) (hrow : h r = some (ls, cLongs E 5 row)) (hq : ∀ j, j < 5 → row j = lN (f i j)) (he : row' = fun y => if y = j then lN v else row y) : LX E (hup h r (ls, cLongs E 5 row')) ls a n (fu2 f i j v) := by
  subst he
  refine ⟨g, (hup_ne (hv_ne m1 hrow rowsJ_ne)).trans m1, fun x hx => ?_, m3⟩
  by_cases hxi : x = i
  · subst hxi
    refine ⟨r, _, hr, hup_self, fun y hy => ?_⟩
    unfold fu2
    by_cases hyj : y = j
    · rw [if_pos hyj, if_pos ⟨rfl, hyj⟩]
    · rw [if_neg hyj, if_neg (fun z => hyj z.2)]
      exact hq y hy
  · obtain ⟨r2, row2, q1, q2, q3⟩ := m2 x hx
    have hne2 : r2 ≠ r := fun z => hxi (m3 x i r hx hi (z ▸ q1) hr)
    refine ⟨r2, row2, q1, (hup_ne hne2).trans q2, fun y hy => ?_⟩
    unfold fu2
    rw [if_neg (fun z => hxi z.1)]
    exact q3 y hy
