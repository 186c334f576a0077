set_option maxRecDepth 100000
/-! constructors of the counts -/
theorem c_X2_init_W (l : Launch) (E : GE) (h : HV) {a la : Nat} {u1 : Value} (lm lr : Nat) (hla : la ≠ 0) (hlm : lm ≠ 0) (ha : h a = some (la, .inr (1, [u1]))) : Cg l E yX2_init cX2_init 1 none 3 1 9 [.ref a] h (fun v h' => v = none ∧ CO E h' 1 la a lm lr (fun _ _ => 0) ∧ Ex [a] h h') := by
  refine Cg.of (by first | exact plainFor_of_name (by decide) | decide +kernel) [some (.ref a)] (Nat.le_of_ble_eq_true rfl) rfl ?_
  intro p e s m args below meth c O
  refine g_aload_n O dX2_init_0 rfl (by first | rfl | exact rf_ref _) ?_
  refine g_objInit O rfl q100 q87 q88 dX2_init_1 (by decide) (by first | exact Nat.le_of_ble_eq_true rfl | omega) ?_
  refine g_aload_n O dX2_init_4 rfl (by first | rfl | exact rf_ref _) ?_
  refine g_new O lm 3 [.null, .null, .null, .null, .int 0, .int 0, .null, .null, .null] rfl dX2_init_5 q101 q102 q41 rfl (by first | exact Nat.le_of_ble_eq_true rfl | omega) (by first | exact Nat.le_of_ble_eq_true rfl | omega) (fun t ht => ?_)
  refine g_dup O dX2_init_8 rfl ?_
  refine g_callI O (n := 0) (c_J1_init l E _ hlm hup_self) rfl dX2_init_9 q103 q104 q41 q105 rfl (by decide +kernel) rfl rfl (by first | decide | omega) (by decide) (by first | exact Nat.le_of_ble_eq_true rfl | omega) (by first | exact Nat.le_of_ble_eq_true rfl | omega) (by first | exact Nat.le_of_ble_eq_true rfl | omega) (fun v h1 hp => ?_)
  obtain ⟨rfl, rfl⟩ := hp
  rw [hup_hup]
  have nat : a ≠ t := hv_neN ha ht
  refine g_putF O 1 0 rfl ((hup_ne nat).trans ha) hla dX2_init_12 q133 rfl (by decide) rfl rfl rfl rfl (by first | exact Nat.le_of_ble_eq_true rfl | omega) ?_
  refine g_vret O dX2_init_15 (Nat.le_refl _) (Nat.le_refl _) ⟨rfl, ⟨t, fun _ => none, hup_self, TM.new ((hup_ne (Ne.symm nat)).trans hup_self), fun w r e => (by cases e), fun w e j hj => rfl, fun w1 w2 r e => (by cases e)⟩, (Ex.rf.new ht).up (List.mem_singleton.mpr rfl)⟩
theorem c_X3_init_W (l : Launch) (E : GE) (h : HV) {a la : Nat} {u1 : Value} (lm lr : Nat) (hla : la ≠ 0) (hlm : lm ≠ 0) (ha : h a = some (la, .inr (1, [u1]))) : Cg l E yX3_init cX3_init 1 none 4 1 9 [.ref a] h (fun v h' => v = none ∧ CO E h' 1 la a lm lr (fun _ _ => 0) ∧ Ex [a] h h') := by
  refine Cg.of (by first | exact plainFor_of_name (by decide) | decide +kernel) [some (.ref a)] (Nat.le_of_ble_eq_true rfl) rfl ?_
  intro p e s m args below meth c O
  refine g_aload_n O dX3_init_0 rfl (by first | rfl | exact rf_ref _) ?_
  refine g_callIN O (n := 0) (c_X2_init_W l E h lm lr hla hlm ha) rfl dX3_init_1 q97 q98 q37 q99 rfl (by decide +kernel) rfl rfl (by first | decide | omega) (by decide) (by first | exact Nat.le_of_ble_eq_true rfl | omega) (Nat.le_refl _) (Nat.le_refl _) (fun v h1 hp => ?_)
  obtain ⟨rfl, h1, h2⟩ := hp
  exact g_vret O dX3_init_4 (Nat.le_refl _) (Nat.le_refl _) ⟨rfl, h1, h2⟩
theorem c_X4_init (l : Launch) (E : GE) (h : HV) {a la : Nat} {u1 : Value} (lm lr : Nat) (hla : la ≠ 0) (hlm : lm ≠ 0) (ha : h a = some (la, .inr (1, [u1]))) : Cg l E yX4_init cX4_init 1 none 5 1 9 [.ref a] h (fun v h' => v = none ∧ CO E h' 1 la a lm lr (fun _ _ => 0) ∧ Ex [a] h h') := by
  refine Cg.of (by first | exact plainFor_of_name (by decide) | decide +kernel) [some (.ref a)] (Nat.le_of_ble_eq_true rfl) rfl ?_
  intro p e s m args below meth c O
  refine g_aload_n O dX4_init_0 rfl (by first | rfl | exact rf_ref _) ?_
  refine g_callIN O (n := 0) (c_X3_init_W l E h lm lr hla hlm ha) rfl dX4_init_1 q94 q95 q38 q96 rfl (by decide +kernel) rfl rfl (by first | decide | omega) (by decide) (by first | exact Nat.le_of_ble_eq_true rfl | omega) (Nat.le_refl _) (Nat.le_refl _) (fun v h1 hp => ?_)
  obtain ⟨rfl, h1, h2⟩ := hp
  exact g_vret O dX4_init_4 (Nat.le_refl _) (Nat.le_refl _) ⟨rfl, h1, h2⟩
theorem c_X2_init_E (l : Launch) (E : GE) (h : HV) {a la : Nat} {u1 : Value} (lm lr : Nat) (hla : la ≠ 0) (hlm : lm ≠ 0) (ha : h a = some (la, .inr (2, [u1]))) : Cg l E yX2_init cX2_init 1 none 3 1 9 [.ref a] h (fun v h' => v = none ∧ CO E h' 2 la a lm lr (fun _ _ => 0) ∧ Ex [a] h h') := by
  refine Cg.of (by first | exact plainFor_of_name (by decide) | decide +kernel) [some (.ref a)] (Nat.le_of_ble_eq_true rfl) rfl ?_
  intro p e s m args below meth c O
  refine g_aload_n O dX2_init_0 rfl (by first | rfl | exact rf_ref _) ?_
  refine g_objInit O rfl q100 q87 q88 dX2_init_1 (by decide) (by first | exact Nat.le_of_ble_eq_true rfl | omega) ?_
  refine g_aload_n O dX2_init_4 rfl (by first | rfl | exact rf_ref _) ?_
  refine g_new O lm 3 [.null, .null, .null, .null, .int 0, .int 0, .null, .null, .null] rfl dX2_init_5 q101 q102 q41 rfl (by first | exact Nat.le_of_ble_eq_true rfl | omega) (by first | exact Nat.le_of_ble_eq_true rfl | omega) (fun t ht => ?_)
  refine g_dup O dX2_init_8 rfl ?_
  refine g_callI O (n := 0) (c_J1_init l E _ hlm hup_self) rfl dX2_init_9 q103 q104 q41 q105 rfl (by decide +kernel) rfl rfl (by first | decide | omega) (by decide) (by first | exact Nat.le_of_ble_eq_true rfl | omega) (by first | exact Nat.le_of_ble_eq_true rfl | omega) (by first | exact Nat.le_of_ble_eq_true rfl | omega) (fun v h1 hp => ?_)
  obtain ⟨rfl, rfl⟩ := hp
  rw [hup_hup]
  have nat : a ≠ t := hv_neN ha ht
  refine g_putF O 2 0 rfl ((hup_ne nat).trans ha) hla dX2_init_12 q133 rfl (by decide) rfl rfl rfl rfl (by first | exact Nat.le_of_ble_eq_true rfl | omega) ?_
  refine g_vret O dX2_init_15 (Nat.le_refl _) (Nat.le_refl _) ⟨rfl, ⟨t, fun _ => none, hup_self, TM.new ((hup_ne (Ne.symm nat)).trans hup_self), fun w r e => (by cases e), fun w e j hj => rfl, fun w1 w2 r e => (by cases e)⟩, (Ex.rf.new ht).up (List.mem_singleton.mpr rfl)⟩
theorem c_X3_init_E (l : Launch) (E : GE) (h : HV) {a la : Nat} {u1 : Value} (lm lr : Nat) (hla : la ≠ 0) (hlm : lm ≠ 0) (ha : h a = some (la, .inr (2, [u1]))) : Cg l E yX3_init cX3_init 1 none 4 1 9 [.ref a] h (fun v h' => v = none ∧ CO E h' 2 la a lm lr (fun _ _ => 0) ∧ Ex [a] h h') := by
  refine Cg.of (by first | exact plainFor_of_name (by decide) | decide +kernel) [some (.ref a)] (Nat.le_of_ble_eq_true rfl) rfl ?_
  intro p e s m args below meth c O
  refine g_aload_n O dX3_init_0 rfl (by first | rfl | exact rf_ref _) ?_
  refine g_callIN O (n := 0) (c_X2_init_E l E h lm lr hla hlm ha) rfl dX3_init_1 q97 q98 q37 q99 rfl (by decide +kernel) rfl rfl (by first | decide | omega) (by decide) (by first | exact Nat.le_of_ble_eq_true rfl | omega) (Nat.le_refl _) (Nat.le_refl _) (fun v h1 hp => ?_)
  obtain ⟨rfl, h1, h2⟩ := hp
  exact g_vret O dX3_init_4 (Nat.le_refl _) (Nat.le_refl _) ⟨rfl, h1, h2⟩
theorem c_X5_init (l : Launch) (E : GE) (h : HV) {a la : Nat} {u1 : Value} (lm lr : Nat) (hla : la ≠ 0) (hlm : lm ≠ 0) (ha : h a = some (la, .inr (2, [u1]))) : Cg l E yX5_init cX5_init 1 none 5 1 9 [.ref a] h (fun v h' => v = none ∧ CO E h' 2 la a lm lr (fun _ _ => 0) ∧ Ex [a] h h') := by
  refine Cg.of (by first | exact plainFor_of_name (by decide) | decide +kernel) [some (.ref a)] (Nat.le_of_ble_eq_true rfl) rfl ?_
  intro p e s m args below meth c O
  refine g_aload_n O dX5_init_0 rfl (by first | rfl | exact rf_ref _) ?_
  refine g_callIN O (n := 0) (c_X3_init_E l E h lm lr hla hlm ha) rfl dX5_init_1 q142 q95 q38 q96 rfl (by decide +kernel) rfl rfl (by first | decide | omega) (by decide) (by first | exact Nat.le_of_ble_eq_true rfl | omega) (Nat.le_refl _) (Nat.le_refl _) (fun v h1 hp => ?_)
  obtain ⟨rfl, h1, h2⟩ := hp
  exact g_vret O dX5_init_4 (Nat.le_refl _) (Nat.le_refl _) ⟨rfl, h1, h2⟩
