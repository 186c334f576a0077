set_option maxRecDepth 100000
/-! numbers, Math, bounds -/
theorem c_J17_checkIndex (l : Launch) (E : GE) (h : HV) (i n : Nat) (hi : i < n) (hn : n < 2 ^ 31) : Cg l E yJ17_checkIndex cJ17_checkIndex 3 (some .int) 0 0 0 [.int (nI i), .int (nI n), .null] h (fun v h' => v = some (.int (nI i)) ∧ h = h') := by
  refine Cg.of (by first | exact plainFor_of_name (by decide) | decide +kernel) [some (.int (nI i)), some (.int (nI n)), some .null] (Nat.le_of_ble_eq_true rfl) rfl ?_
  intro p e s m args below meth c O
  refine g_iload_n O dJ17_checkIndex_0 rfl ?_
  refine g_if_lt O 9 dJ17_checkIndex_1 (by decide) (fun hc => ?_) (fun hc => ?_)
  · exact absurd hc (nI_pos (Nat.lt_trans hi hn))
  · refine g_iload_n O dJ17_checkIndex_4 rfl ?_
    refine g_iload_n O dJ17_checkIndex_5 rfl ?_
    refine g_icmp_lt O 16 dJ17_checkIndex_6 (by decide) (fun hc => ?_) (fun hc => ?_)
    · refine g_iload_n O dJ17_checkIndex_16 rfl ?_
      exact g_iret O dJ17_checkIndex_17 (by first | exact Nat.le_of_ble_eq_true rfl | omega) (by first | exact Nat.le_of_ble_eq_true rfl | omega) ⟨rfl, rfl⟩
    · exact absurd (nI_lt hi hn) hc
theorem c_J26_checkIndex (l : Launch) (E : GE) (h : HV) (i n : Nat) (hi : i < n) (hn : n < 2 ^ 31) : Cg l E yJ26_checkIndex cJ26_checkIndex 2 (some .int) 1 0 0 [.int (nI i), .int (nI n)] h (fun v h' => v = some (.int (nI i)) ∧ h = h') := by
  refine Cg.of (by first | exact plainFor_of_name (by decide) | decide +kernel) [some (.int (nI i)), some (.int (nI n))] (Nat.le_of_ble_eq_true rfl) rfl ?_
  intro p e s m args below meth c O
  refine g_iload_n O dJ26_checkIndex_0 rfl ?_
  refine g_iload_n O dJ26_checkIndex_1 rfl ?_
  refine g_null O dJ26_checkIndex_2 ?_
  refine g_callS O (n := 3) (c_J17_checkIndex l E h i n hi hn) rfl dJ26_checkIndex_3 q244 q245 q60 q246 (by decide +kernel) rfl rfl (by first | decide | omega) (by decide) (by first | exact Nat.le_of_ble_eq_true rfl | omega) (by first | exact Nat.le_of_ble_eq_true rfl | omega) (by first | exact Nat.le_of_ble_eq_true rfl | omega) (fun v h1 hp => ?_)
  obtain ⟨rfl, rfl⟩ := hp
  exact g_iret O dJ26_checkIndex_6 (by first | exact Nat.le_of_ble_eq_true rfl | omega) (by first | exact Nat.le_of_ble_eq_true rfl | omega) ⟨rfl, rfl⟩
theorem c_J15_max (l : Launch) (E : GE) (h : HV) (a b : Nat) (ha : a < 2 ^ 31) (hb : b < 2 ^ 31) : Cg l E yJ15_max cJ15_max 2 (some .int) 0 0 0 [.int (nI a), .int (nI b)] h (fun v h' => v = some (.int (nI (if a < b then b else a))) ∧ h = h') := by
  refine Cg.of (by first | exact plainFor_of_name (by decide) | decide +kernel) [some (.int (nI a)), some (.int (nI b))] (Nat.le_of_ble_eq_true rfl) rfl ?_
  intro p e s m args below meth c O
  refine g_iload_n O dJ15_max_0 rfl ?_
  refine g_iload_n O dJ15_max_1 rfl ?_
  refine g_icmp_lt O 9 dJ15_max_2 (by decide) (fun hc => ?_) (fun hc => ?_)
  · refine g_iload_n O dJ15_max_9 rfl ?_
    exact g_iret O dJ15_max_10 (by first | exact Nat.le_of_ble_eq_true rfl | omega) (by first | exact Nat.le_of_ble_eq_true rfl | omega) ⟨by rw [if_pos ((nI_ltI ha hb).mp hc)], rfl⟩
  · refine g_iload_n O dJ15_max_5 rfl ?_
    refine g_goto O 10 dJ15_max_6 (by decide) ?_
    exact g_iret O dJ15_max_10 (by first | exact Nat.le_of_ble_eq_true rfl | omega) (by first | exact Nat.le_of_ble_eq_true rfl | omega) ⟨by rw [if_neg (fun z => hc ((nI_ltI ha hb).mpr z))], rfl⟩
theorem c_J15_min (l : Launch) (E : GE) (h : HV) (a b : Nat) (ha : a < 2 ^ 31) (hb : b < 2 ^ 31) : Cg l E yJ15_min cJ15_min 2 (some .int) 0 0 0 [.int (nI a), .int (nI b)] h (fun v h' => v = some (.int (nI (if b < a then b else a))) ∧ h = h') := by
  refine Cg.of (by first | exact plainFor_of_name (by decide) | decide +kernel) [some (.int (nI a)), some (.int (nI b))] (Nat.le_of_ble_eq_true rfl) rfl ?_
  intro p e s m args below meth c O
  refine g_iload_n O dJ15_min_0 rfl ?_
  refine g_iload_n O dJ15_min_1 rfl ?_
  refine g_icmp_gt O 9 dJ15_min_2 (by decide) (fun hc => ?_) (fun hc => ?_)
  · refine g_iload_n O dJ15_min_9 rfl ?_
    exact g_iret O dJ15_min_10 (by first | exact Nat.le_of_ble_eq_true rfl | omega) (by first | exact Nat.le_of_ble_eq_true rfl | omega) ⟨by rw [if_pos ((nI_ltI hb ha).mp hc)], rfl⟩
  · refine g_iload_n O dJ15_min_5 rfl ?_
    refine g_goto O 10 dJ15_min_6 (by decide) ?_
    exact g_iret O dJ15_min_10 (by first | exact Nat.le_of_ble_eq_true rfl | omega) (by first | exact Nat.le_of_ble_eq_true rfl | omega) ⟨by rw [if_neg (fun z => hc ((nI_ltI hb ha).mpr z))], rfl⟩
theorem c_J14_newLength (l : Launch) (E : GE) (h : HV) (o mi pr : Nat) (ho : o ≤ 100000) (hmi0 : 1 ≤ mi) (hmi : mi ≤ 100000) (hpr : pr ≤ 100000) : Cg l E yJ14_newLength cJ14_newLength 4 (some .int) 1 0 0 [.int (nI o), .int (nI mi), .int (nI pr)] h (fun v h' => v = some (.int (nI (o + (if mi < pr then pr else mi)))) ∧ h = h') := by
  refine Cg.of (by first | exact plainFor_of_name (by decide) | decide +kernel) [some (.int (nI o)), some (.int (nI mi)), some (.int (nI pr)), none] (Nat.le_of_ble_eq_true rfl) rfl ?_
  intro p e s m args below meth c O
  have hmx : 1 ≤ (if mi < pr then pr else mi) ∧ (if mi < pr then pr else mi) ≤ 100000 := by split <;> omega
  refine g_iload_n O dJ14_newLength_0 rfl ?_
  refine g_iload_n O dJ14_newLength_1 rfl ?_
  refine g_iload_n O dJ14_newLength_2 rfl ?_
  refine g_callS O (n := 2) (c_J15_max l E h mi pr (by omega) (by omega)) rfl dJ14_newLength_3 q464 q465 q57 q466 (by decide +kernel) rfl rfl (by first | decide | omega) (by decide) (by first | exact Nat.le_of_ble_eq_true rfl | omega) (by first | exact Nat.le_of_ble_eq_true rfl | omega) (by first | exact Nat.le_of_ble_eq_true rfl | omega) (fun v h1 hp => ?_)
  obtain ⟨rfl, rfl⟩ := hp
  generalize (if mi < pr then pr else mi) = mx at hmx ⊢
  refine g_iadd O dJ14_newLength_6 ?_
  rw [nI_add]
  refine g_istore_n O rfl dJ14_newLength_7 rfl ?_
  refine g_iconst O dJ14_newLength_8 (nI 0) rfl ?_
  refine g_iload_n O dJ14_newLength_9 rfl ?_
  refine g_icmp_ge O 21 dJ14_newLength_10 (by decide) (fun hc => ?_) (fun hc => ?_)
  · exact absurd ((nI_leI (by omega) (by decide)).mp hc) (by omega)
  · refine g_iload_n O dJ14_newLength_13 rfl ?_
    refine g_ldc O dJ14_newLength_14 q467 ?_
    refine g_icmp_gt O 21 dJ14_newLength_16 (by decide) (fun hc2 => ?_) (fun hc2 => ?_)
    · exact absurd ((nI_ltI (a := 2147483639) (by decide) (by omega)).mp hc2) (by omega)
    · refine g_iload_n O dJ14_newLength_19 rfl ?_
      exact g_iret O dJ14_newLength_20 (by first | exact Nat.le_of_ble_eq_true rfl | omega) (by first | exact Nat.le_of_ble_eq_true rfl | omega) ⟨rfl, rfl⟩
