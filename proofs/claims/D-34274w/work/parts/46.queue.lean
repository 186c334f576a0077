set_option maxRecDepth 100000
/-! PriorityQueue: constructors, size -/
abbrev cPQ (arr : Value) (n : Nat) (cmp : Value) (mo : Int32) : va_E := .inr (7, [arr, .int (nI n), cmp, .int mo])
theorem c_J28_init (l : Launch) (E : GE) (h : HV) {a : Nat} : Cg l E yJ28_init cJ28_init 1 none 2 0 0 [.ref a] h (fun v h' => v = none ∧ h = h') := by
  refine Cg.of (by first | exact plainFor_of_name (by decide) | decide +kernel) [some (.ref a)] (Nat.le_of_ble_eq_true rfl) rfl ?_
  intro p e s m args below meth c O
  refine g_aload_n O dJ28_init_0 rfl (by first | rfl | exact rf_ref _) ?_
  refine g_callI O (n := 0) (c_J2_init l E h) rfl dJ28_init_1 q1337 q156 q43 q157 rfl (by decide +kernel) rfl rfl (by first | decide | omega) (by decide) (by first | exact Nat.le_of_ble_eq_true rfl | omega) (by first | exact Nat.le_of_ble_eq_true rfl | omega) (by first | exact Nat.le_of_ble_eq_true rfl | omega) (fun v h1 hp => ?_)
  obtain ⟨rfl, rfl⟩ := hp
  exact g_vret O dJ28_init_4 (by first | exact Nat.le_of_ble_eq_true rfl | omega) (by first | exact Nat.le_of_ble_eq_true rfl | omega) ⟨rfl, rfl⟩
theorem c_J29_init_2 (l : Launch) (E : GE) (h : HV) {a b lab : Nat} {x1 x3 : Value} {mo : Int32} {sz : Nat} (hm : lab ≠ 0) (ha : h a = some (lab, cPQ x1 sz x3 mo)) : Cg l E yJ29_init_2 cJ29_init_2 3 none 3 1 11 [.ref a, .int (nI 11), .ref b] h (fun v h' => v = none ∧ ∃ arr, h arr = none ∧ hup (hup h arr (lab, cObjs E 11 (fun _ => none))) a (lab, cPQ (.ref arr) sz (.ref b) mo) = h') := by
  refine Cg.of (by first | exact plainFor_of_name (by decide) | decide +kernel) [some (.ref a), some (.int (nI 11)), some (.ref b)] (Nat.le_of_ble_eq_true rfl) rfl ?_
  intro p e s m args below meth c O
  refine g_aload_n O dJ29_init_2_0 rfl (by first | rfl | exact rf_ref _) ?_
  refine g_callI O (n := 0) (c_J28_init l E h) rfl dJ29_init_2_1 q1334 q1335 q76 q1336 rfl (by decide +kernel) rfl rfl (by first | decide | omega) (by decide) (by first | exact Nat.le_of_ble_eq_true rfl | omega) (by first | exact Nat.le_of_ble_eq_true rfl | omega) (by first | exact Nat.le_of_ble_eq_true rfl | omega) (fun v h1 hp => ?_)
  obtain ⟨rfl, rfl⟩ := hp
  refine g_iload_n O dJ29_init_2_4 rfl ?_
  refine g_iconst O dJ29_init_2_5 (nI 1) rfl ?_
  refine g_icmp_ge O 17 dJ29_init_2_6 (by decide) (fun hc => ?_) (fun hc => ?_)
  · refine g_aload_n O dJ29_init_2_17 rfl (by first | rfl | exact rf_ref _) ?_
    refine g_iload_n O dJ29_init_2_18 rfl ?_
    refine g_anewa O lab 11 rfl (by decide) q1340 dJ29_init_2_19 (by first | exact Nat.le_of_ble_eq_true rfl | omega) (by first | exact Nat.le_of_ble_eq_true rfl | omega) (fun arr harr => ?_)
    refine g_put O 7 0 rfl ((hup_ne (hv_neN ha harr)).trans ha) hm dJ29_init_2_22 q1341 rfl (by decide) rfl rfl rfl (by first | exact Nat.le_of_ble_eq_true rfl | omega) ?_
    refine g_aload_n O dJ29_init_2_25 rfl (by first | rfl | exact rf_ref _) ?_
    refine g_aload_n O dJ29_init_2_26 rfl (by first | rfl | exact rf_ref _) ?_
    refine g_putF O 7 2 rfl hup_self hm dJ29_init_2_27 q1343 rfl (by decide) rfl rfl rfl rfl (by first | exact Nat.le_of_ble_eq_true rfl | omega) ?_
    exact g_vret O dJ29_init_2_30 (Nat.le_refl _) (Nat.le_refl _) ⟨rfl, arr, harr, by rw [hup_hup]; rfl⟩
  · exact absurd ((nI_leI (by decide) (by decide)).mpr (by decide)) hc
theorem c_J29_init (l : Launch) (E : GE) (h : HV) {a b lab : Nat} {x1 x3 : Value} {mo : Int32} {sz : Nat} (hm : lab ≠ 0) (ha : h a = some (lab, cPQ x1 sz x3 mo)) : Cg l E yJ29_init cJ29_init 2 none 4 1 11 [.ref a, .ref b] h (fun v h' => v = none ∧ ∃ arr, h arr = none ∧ hup (hup h arr (lab, cObjs E 11 (fun _ => none))) a (lab, cPQ (.ref arr) sz (.ref b) mo) = h') := by
  refine Cg.of (by first | exact plainFor_of_name (by decide) | decide +kernel) [some (.ref a), some (.ref b)] (Nat.le_of_ble_eq_true rfl) rfl ?_
  intro p e s m args below meth c O
  refine g_aload_n O dJ29_init_0 rfl (by first | rfl | exact rf_ref _) ?_
  refine g_bipush O dJ29_init_1 (nI 11) rfl ?_
  refine g_aload_n O dJ29_init_3 rfl (by first | rfl | exact rf_ref _) ?_
  refine g_callI O (n := 2) (c_J29_init_2 l E h (b := b) hm ha) rfl dJ29_init_4 q1331 q1332 q77 q1333 rfl (by decide +kernel) rfl rfl (by first | decide | omega) (by decide) (by first | exact Nat.le_of_ble_eq_true rfl | omega) (Nat.le_refl _) (Nat.le_refl _) (fun v h1 hp => ?_)
  obtain ⟨rfl, hp⟩ := hp
  exact g_vret O dJ29_init_7 (Nat.le_refl _) (Nat.le_refl _) ⟨rfl, hp⟩
theorem c_J29_size (l : Launch) (E : GE) (h : HV) {a lab n : Nat} {x1 x3 : Value} {mo : Int32} (ha : h a = some (lab, cPQ x1 n x3 mo)) : Cg l E yJ29_size cJ29_size 1 (some .int) 0 0 0 [.ref a] h (fun v h' => v = some (.int (nI n)) ∧ h = h') := by
  refine Cg.of (by first | exact plainFor_of_name (by decide) | decide +kernel) [some (.ref a)] (Nat.le_of_ble_eq_true rfl) rfl ?_
  intro p e s m args below meth c O
  refine g_aload_n O dJ29_size_0 rfl (by first | rfl | exact rf_ref _) ?_
  refine g_get O 7 1 rfl ha dJ29_size_1 q1342 rfl (by decide) rfl rfl ?_
  exact g_iret O dJ29_size_4 (by first | exact Nat.le_of_ble_eq_true rfl | omega) (by first | exact Nat.le_of_ble_eq_true rfl | omega) ⟨rfl, rfl⟩
