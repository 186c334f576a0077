set_option maxRecDepth 100000
/-! PriorityQueue: isEmpty, grow -/
theorem c_J2_isEmpty (l : Launch) (E : GE) (h : HV) {a lab n : Nat} {x1 x3 : Value} {mo : Int32} (hn : n ≤ 100000) (ha : h a = some (lab, cPQ x1 n x3 mo)) : Cg l E yJ2_isEmpty cJ2_isEmpty 1 (some .boolean) 1 0 0 [.ref a] h (fun v h' => v = some (.int (if n = 0 then nI 1 else nI 0)) ∧ h = h') := by
  refine Cg.of (by first | exact plainFor_of_name (by decide) | decide +kernel) [some (.ref a)] (Nat.le_of_ble_eq_true rfl) rfl ?_
  intro p e s m args below meth c O
  refine g_aload_n O dJ2_isEmpty_0 rfl (by first | rfl | exact rf_ref _) ?_
  refine g_callU O (n := 0) (c_J29_size l E h ha) rfl rfl ha dJ2_isEmpty_1 (va_cwA 0 O.ts (lw_U q1413 q1415 q1417 q1418 q77 q1419) rfl rfl rfl (O.nw q1414 rfl) (by decide +kernel) (g_rm (by decide) (by decide))) rfl rfl (by first | exact Nat.le_of_ble_eq_true rfl | omega) (by first | exact Nat.le_of_ble_eq_true rfl | omega) (by first | exact Nat.le_of_ble_eq_true rfl | omega) (fun v h1 hp => ?_)
  obtain ⟨rfl, rfl⟩ := hp
  refine g_if_ne O 11 dJ2_isEmpty_4 (by decide) (fun hc => ?_) (fun hc => ?_)
  · refine g_iconst O dJ2_isEmpty_11 (nI 0) rfl ?_
    have hk0 : ¬ n = 0 := fun z => hc (by rw [z]; exact nI_0)
    exact g_zret O dJ2_isEmpty_12 rfl (by first | exact Nat.le_of_ble_eq_true rfl | omega) (by first | exact Nat.le_of_ble_eq_true rfl | omega) ⟨by rw [if_neg hk0], rfl⟩
  · refine g_iconst O dJ2_isEmpty_7 (nI 1) rfl ?_
    refine g_goto O 12 dJ2_isEmpty_8 (by decide) ?_
    have hk0 : n = 0 := (nI_nz (by omega)).mp hc
    exact g_zret O dJ2_isEmpty_12 rfl (by first | exact Nat.le_of_ble_eq_true rfl | omega) (by first | exact Nat.le_of_ble_eq_true rfl | omega) ⟨by rw [if_pos hk0], rfl⟩
/-- how much a queue's array grows -/
def qcap (n : Nat) : Nat := n + (if n < 64 then n + 2 else n / 2)
theorem c_J29_grow (l : Launch) (E : GE) (h : HV) {a arr lab n k : Nat} {x3 : Value} {mo : Int32} {g : Nat → Option Nat} (hm : lab ≠ 0) (ha : h a = some (lab, cPQ (.ref arr) k x3 mo)) (hr : h arr = some (lab, cObjs E n g)) (hn : n ≤ 10000) (h1 : 1 ≤ n) (hel : ∀ i, i < n → ∀ y, g i = some y → gAny h y) : Cg l E yJ29_grow cJ29_grow 4 none 3 1 (qcap n) [.ref a, .int (nI (n + 1))] h (fun v h' => v = none ∧ ∃ b, h b = none ∧ hup (hup h b (lab, cObjs E (qcap n) (fun j => if j < n then g j else none))) a (lab, cPQ (.ref b) k x3 mo) = h') := by
  refine Cg.of (by first | exact plainFor_of_name (by decide) | decide +kernel) [some (.ref a), some (.int (nI (n + 1))), none, none] (Nat.le_of_ble_eq_true rfl) rfl ?_
  intro p e s m args below meth c O
  have hq : n ≤ qcap n ∧ qcap n ≤ 200000 := by unfold qcap; split <;> omega
  have fin : ∀ q, q = qcap n → Wg p l e (rmG 3 1 (qcap n)) s m args below meth c E (MQ below (gQ E (fun v h' => v = none ∧ ∃ b, h b = none ∧ hup (hup h b (lab, cObjs E (qcap n) (fun j => if j < n then g j else none))) a (lab, cPQ (.ref b) k x3 mo) = h')) args s 1 (qcap n) (gA E)) 28 [some (.ref a), some (.int (nI (n + 1))), some (.int (nI n)), none] [.int (nI q)] h 0 0 := by
    intro q hqq
    subst hqq
    refine g_istore_n O rfl dJ29_grow_28 rfl ?_
    refine g_aload_n O dJ29_grow_29 rfl (by first | rfl | exact rf_ref _) ?_
    refine g_aload_n O dJ29_grow_30 rfl (by first | rfl | exact rf_ref _) ?_
    refine g_get O 7 0 rfl ha dJ29_grow_31 q1341 rfl (by decide) rfl rfl ?_
    refine g_iload_n O dJ29_grow_34 rfl ?_
    refine g_callS O (n := 2) (c_J16_copyOf_2 l E h (qcap n) hr hm hq.1 hq.2 hel) rfl dJ29_grow_35 q1391 q762 q58 q763 (by decide +kernel) rfl rfl (by first | decide | omega) (by decide) (by first | exact Nat.le_of_ble_eq_true rfl | omega) (Nat.le_refl _) (by omega) (fun v h1 hp => ?_)
    obtain ⟨b, hb, rfl, rfl⟩ := hp
    refine g_put O 7 0 rfl ((hup_ne (hv_neN ha hb)).trans ha) hm dJ29_grow_38 q1341 rfl (by decide) rfl rfl rfl (by first | exact Nat.le_of_ble_eq_true rfl | omega) ?_
    exact g_vret O dJ29_grow_41 (Nat.le_refl _) (by omega) ⟨rfl, b, hb, rfl⟩
  refine g_aload_n O dJ29_grow_0 rfl (by first | rfl | exact rf_ref _) ?_
  refine g_get O 7 0 rfl ha dJ29_grow_1 q1341 rfl (by decide) rfl rfl ?_
  refine g_alen O 4 rfl hr dJ29_grow_4 ?_
  refine g_istore_n O rfl dJ29_grow_5 rfl ?_
  refine g_iload_n O dJ29_grow_6 rfl ?_
  refine g_iload_n O dJ29_grow_7 rfl ?_
  refine g_iload_n O dJ29_grow_8 rfl ?_
  refine g_isub O dJ29_grow_9 ?_
  rw [pk_sub (by omega : n ≤ n + 1), show n + 1 - n = 1 by omega]
  refine g_iload_n O dJ29_grow_10 rfl ?_
  refine g_bipush O dJ29_grow_11 (nI 64) rfl ?_
  refine g_icmp_ge O 22 dJ29_grow_13 (by decide) (fun hc => ?_) (fun hc => ?_)
  · have h64 : 64 ≤ n := (nI_leI (by decide) (by omega)).mp hc
    refine g_iload_n O dJ29_grow_22 rfl ?_
    refine g_iconst O dJ29_grow_23 (nI 1) rfl ?_
    refine g_ishr O dJ29_grow_24 ?_
    rw [nI_half (by omega)]
    refine g_callS O (n := 3) (c_J14_newLength l E h n 1 (n / 2) (by omega) (Nat.le_refl 1) (by omega) (by omega)) rfl dJ29_grow_25 q1390 q462 q56 q463 (by decide +kernel) rfl rfl (by first | decide | omega) (by decide) (by first | exact Nat.le_of_ble_eq_true rfl | omega) (by first | exact Nat.le_of_ble_eq_true rfl | omega) (by first | exact Nat.le_of_ble_eq_true rfl | omega) (fun v h1 hp => ?_)
    obtain ⟨rfl, rfl⟩ := hp
    refine fin _ ?_
    unfold qcap
    rw [if_pos (by omega), if_neg (by omega)]
  · have h64 : n < 64 := by
      rcases Nat.lt_or_ge n 64 with z | z
      · exact z
      · exact absurd ((nI_leI (by decide) (by omega)).mpr z) hc
    refine g_iload_n O dJ29_grow_16 rfl ?_
    refine g_iconst O dJ29_grow_17 (nI 2) rfl ?_
    refine g_iadd O dJ29_grow_18 ?_
    rw [nI_add]
    refine g_goto O 25 dJ29_grow_19 (by decide) ?_
    refine g_callS O (n := 3) (c_J14_newLength l E h n 1 (n + 2) (by omega) (Nat.le_refl 1) (by omega) (by omega)) rfl dJ29_grow_25 q1390 q462 q56 q463 (by decide +kernel) rfl rfl (by first | decide | omega) (by decide) (by first | exact Nat.le_of_ble_eq_true rfl | omega) (by first | exact Nat.le_of_ble_eq_true rfl | omega) (by first | exact Nat.le_of_ble_eq_true rfl | omega) (fun v h1 hp => ?_)
    obtain ⟨rfl, rfl⟩ := hp
    refine fin _ ?_
    unfold qcap
    rw [if_pos (by omega), if_pos h64]
