set_option maxRecDepth 100000
/-! new Trellistag() -/
theorem c_X1_init (l : Launch) (E : GE) (h : HV) {T : Nat} (hG : GC E h) (hT : h T = some (1, .inr (0, [.null, .null, .null, .null, .null, .null, .null, .null, .null]))) : Cg l E yX1_init cX1_init 1 none 6 15 70 [.ref T] h (fun v h' => v = none ∧ Fr [1] h h' ∧ ∃ aw ae ast afi atx adr ase alo : Nat, h' T = some (1, .inr (0, [.ref aw, .ref ae, .ref ast, .ref afi, .ref atx, .ref adr, .ref ase, .ref alo, .ref (gc E 0)])) ∧ CO E h' 1 2 aw 3 4 (fun _ _ => 0) ∧ CO E h' 2 5 ae 6 7 (fun _ _ => 0) ∧ MX E h' 8 ast 5 5 (fun _ _ => 0) ∧ VX E h' 9 afi 5 (fun _ => 0) ∧ AL E h' 10 atx 0 [] ∧ AL E h' 11 adr 0 [] ∧ AL E h' 12 ase 0 [] ∧ h' alo = some (13, cInts E 5 (fun _ => 0))) := by
  refine Cg.of (by first | exact plainFor_of_name (by decide) | decide +kernel) [some (.ref T)] (Nat.le_of_ble_eq_true rfl) rfl ?_
  intro p e s m args below meth c O
  have g1 : ∀ {hh : HV}, Fr [1] h hh → GC E hh := fun F => hG.fr F (by decide)
  -- words
  refine g_aload_n O dX1_init_0 rfl (by first | rfl | exact rf_ref _) ?_
  refine g_objInit O rfl q86 q87 q88 dX1_init_1 (by decide) (by first | exact Nat.le_of_ble_eq_true rfl | omega) ?_
  refine g_aload_n O dX1_init_4 rfl (by first | rfl | exact rf_ref _) ?_
  refine g_new O 2 1 [.null] rfl dX1_init_5 q89 q90 q39 rfl (by first | exact Nat.le_of_ble_eq_true rfl | omega) (by first | exact Nat.le_of_ble_eq_true rfl | omega) (fun aw haw => ?_)
  refine g_dup O dX1_init_8 rfl ?_
  refine g_callIN O (n := 0) (c_X4_init l E _ 3 4 (by decide) (by decide) hup_self) rfl dX1_init_9 q91 q92 q39 q93 rfl (by decide +kernel) rfl rfl (by first | decide | omega) (by decide) (by first | exact Nat.le_of_ble_eq_true rfl | omega) (by first | exact Nat.le_of_ble_eq_true rfl | omega) (by first | exact Nat.le_of_ble_eq_true rfl | omega) (fun v h1 hp => ?_)
  obtain ⟨rfl, W1, E1⟩ := hp
  have F1 : Fr [1] h h1 := fun b c e n => E1 b c ((hup_ne (hv_neN e haw)).trans e) (fun z => by rw [List.mem_singleton.mp z, haw] at e; cases e)
  have T1 : h1 T = some (1, .inr (0, [.null, .null, .null, .null, .null, .null, .null, .null, .null])) := E1 _ _ ((hup_ne (hv_neN hT haw)).trans hT) (fun z => by rw [List.mem_singleton.mp z, haw] at hT; cases hT)
  refine g_putF O 0 0 rfl T1 (by decide) dX1_init_12 q178 rfl (by decide) rfl rfl rfl rfl (by first | exact Nat.le_of_ble_eq_true rfl | omega) ?_
  refine Wg.abs (fun h2 e2 => ?_)
  have S2 : Fr [1] h1 h2 := by rw [← e2]; exact Fr.rf.up T1 (by decide)
  have T2 : h2 T = some (1, .inr (0, [.ref aw, .null, .null, .null, .null, .null, .null, .null, .null])) := by rw [← e2]; exact hup_self
  clear e2
  have W2 := W1.fr S2 (by decide) (by decide) (by decide) (by decide)
  -- endings
  refine g_aload_n O dX1_init_15 rfl (by first | rfl | exact rf_ref _) ?_
  refine g_new O 5 2 [.null] rfl dX1_init_16 q137 q138 q42 rfl (by first | exact Nat.le_of_ble_eq_true rfl | omega) (by first | exact Nat.le_of_ble_eq_true rfl | omega) (fun ae hae => ?_)
  refine g_dup O dX1_init_19 rfl ?_
  refine g_callIN O (n := 0) (c_X5_init l E _ 6 7 (by decide) (by decide) hup_self) rfl dX1_init_20 q139 q140 q42 q141 rfl (by decide +kernel) rfl rfl (by first | decide | omega) (by decide) (by first | exact Nat.le_of_ble_eq_true rfl | omega) (by first | exact Nat.le_of_ble_eq_true rfl | omega) (by first | exact Nat.le_of_ble_eq_true rfl | omega) (fun v h3 hp => ?_)
  obtain ⟨rfl, N3, E3⟩ := hp
  have S3 : Fr [] h2 h3 := fun b c e n => E3 b c ((hup_ne (hv_neN e hae)).trans e) (fun z => by rw [List.mem_singleton.mp z, hae] at e; cases e)
  have W3 := W2.fr S3 (by simp) (by simp) (by simp) (by simp)
  have T3 := S3 _ _ T2 (by simp)
  refine g_putF O 0 1 rfl T3 (by decide) dX1_init_23 q179 rfl (by decide) rfl rfl rfl rfl (by first | exact Nat.le_of_ble_eq_true rfl | omega) ?_
  refine Wg.abs (fun h4 e4 => ?_)
  have S4 : Fr [1] h3 h4 := by rw [← e4]; exact Fr.rf.up T3 (by decide)
  have T4 : h4 T = some (1, .inr (0, [.ref aw, .ref ae, .null, .null, .null, .null, .null, .null, .null])) := by rw [← e4]; exact hup_self
  clear e4
  have W4 := W3.fr S4 (by decide) (by decide) (by decide) (by decide)
  have N4 := N3.fr S4 (by decide) (by decide) (by decide) (by decide)
  -- steps
  refine g_aload_n O dX1_init_26 rfl (by first | rfl | exact rf_ref _) ?_
  refine g_iconst O dX1_init_27 (nI 5) rfl ?_
  refine g_iconst O dX1_init_28 (nI 5) rfl ?_
  refine g_multiI O 8 5 rfl (by decide) q145 dX1_init_29 (by first | exact Nat.le_of_ble_eq_true rfl | omega) (by first | exact Nat.le_of_ble_eq_true rfl | omega) (fun ast hast => ?_)
  refine Wg.abs (fun h5 e5 => ?_)
  have S5 : Fr [] h4 h5 := by rw [← e5]; exact Fr.rf.mul hast
  have M5 : MX E h5 8 ast 5 5 (fun _ _ => 0) := by rw [← e5]; exact MX.new
  clear e5
  refine g_putF O 0 2 rfl (S5 _ _ T4 (by simp)) (by decide) dX1_init_33 q180 rfl (by decide) rfl rfl rfl rfl (by first | exact Nat.le_of_ble_eq_true rfl | omega) ?_
  refine Wg.abs (fun h6 e6 => ?_)
  have S6 : Fr [1] h5 h6 := by rw [← e6]; exact Fr.rf.up (S5 _ _ T4 (by simp)) (by decide)
  have T6 : h6 T = some (1, .inr (0, [.ref aw, .ref ae, .ref ast, .null, .null, .null, .null, .null, .null])) := by rw [← e6]; exact hup_self
  clear e6
  -- firsts
  refine g_aload_n O dX1_init_36 rfl (by first | rfl | exact rf_ref _) ?_
  refine g_iconst O dX1_init_37 (nI 5) rfl ?_
  refine g_newa O 9 0 5 (5, .inl (fun _ => 0)) dX1_init_38 rfl rfl rfl (by decide) q176 (by first | exact Nat.le_of_ble_eq_true rfl | omega) (by first | exact Nat.le_of_ble_eq_true rfl | omega) (fun afi hafi => ?_)
  refine Wg.abs (fun h7 e7 => ?_)
  have S7 : Fr [] h6 h7 := by rw [← e7]; exact Fr.rf.new hafi
  have V7 : VX E h7 9 afi 5 (fun _ => 0) := by rw [← e7]; exact ⟨_, hup_self, fun j hj => nI_0.symm⟩
  clear e7
  refine g_putF O 0 3 rfl (S7 _ _ T6 (by simp)) (by decide) dX1_init_40 q181 rfl (by decide) rfl rfl rfl rfl (by first | exact Nat.le_of_ble_eq_true rfl | omega) ?_
  refine Wg.abs (fun h8 e8 => ?_)
  have S8 : Fr [1] h7 h8 := by rw [← e8]; exact Fr.rf.up (S7 _ _ T6 (by simp)) (by decide)
  have T8 : h8 T = some (1, .inr (0, [.ref aw, .ref ae, .ref ast, .ref afi, .null, .null, .null, .null, .null])) := by rw [← e8]; exact hup_self
  clear e8
  have up1 : ∀ {a b : HV}, Fr [] a b → Fr [1] a b := fun F => F.mono (fun x hx => by cases hx)
  have F8 : Fr [1] h h8 := (((((((F1.tr S2).tr (up1 S3)).tr S4).tr (up1 S5)).tr S6).tr (up1 S7)).tr S8)
  refine g_aload_n O dX1_init_43 rfl (by first | rfl | exact rf_ref _) ?_
  refine g_new O 10 5 [.int 0, .null, .int 0] rfl dX1_init_44 q147 q148 q45 rfl (by first | exact Nat.le_of_ble_eq_true rfl | omega) (by first | exact Nat.le_of_ble_eq_true rfl | omega) (fun atx hatx => ?_)
  refine g_dup O dX1_init_47 rfl ?_
  refine g_callI O (n := 0) (c_J4_init l E _ (g1 (F8.tr (up1 (Fr.rf.new hatx)))) hup_self (by decide)) rfl dX1_init_48 q149 q150 q45 q151 rfl (by decide +kernel) rfl rfl (by first | decide | omega) (by decide) (by first | exact Nat.le_of_ble_eq_true rfl | omega) (by first | exact Nat.le_of_ble_eq_true rfl | omega) (by first | exact Nat.le_of_ble_eq_true rfl | omega) (fun v q1 hp => ?_)
  obtain ⟨rfl, rfl⟩ := hp
  refine Wg.H _ hup_hup ?_
  refine Wg.abs (fun h9 e9 => ?_)
  have S9 : Fr [] h8 h9 := by rw [← e9]; exact Fr.rf.new hatx
  have A9 : AL E h9 10 atx 0 [] := by rw [← e9]; exact AL.new (g1 (F8.tr (up1 (Fr.rf.new hatx)))) hup_self
  clear e9
  refine g_putF O 0 4 rfl (S9 _ _ T8 (by simp)) (by decide) dX1_init_51 q182 rfl (by decide) rfl rfl rfl rfl (by first | exact Nat.le_of_ble_eq_true rfl | omega) ?_
  refine Wg.abs (fun h10 e10 => ?_)
  have S10 : Fr [1] h9 h10 := by rw [← e10]; exact Fr.rf.up (S9 _ _ T8 (by simp)) (by decide)
  have T10 : h10 T = some (1, .inr (0, [.ref aw, .ref ae, .ref ast, .ref afi, .ref atx, .null, .null, .null, .null])) := by rw [← e10]; exact hup_self
  clear e10
  have F10 : Fr [1] h h10 := (F8.tr (up1 S9)).tr S10
  refine g_aload_n O dX1_init_54 rfl (by first | rfl | exact rf_ref _) ?_
  refine g_new O 11 5 [.int 0, .null, .int 0] rfl dX1_init_55 q147 q148 q45 rfl (by first | exact Nat.le_of_ble_eq_true rfl | omega) (by first | exact Nat.le_of_ble_eq_true rfl | omega) (fun adr hadr => ?_)
  refine g_dup O dX1_init_58 rfl ?_
  refine g_callI O (n := 0) (c_J4_init l E _ (g1 (F10.tr (up1 (Fr.rf.new hadr)))) hup_self (by decide)) rfl dX1_init_59 q149 q150 q45 q151 rfl (by decide +kernel) rfl rfl (by first | decide | omega) (by decide) (by first | exact Nat.le_of_ble_eq_true rfl | omega) (by first | exact Nat.le_of_ble_eq_true rfl | omega) (by first | exact Nat.le_of_ble_eq_true rfl | omega) (fun v q1 hp => ?_)
  obtain ⟨rfl, rfl⟩ := hp
  refine Wg.H _ hup_hup ?_
  refine Wg.abs (fun h11 e11 => ?_)
  have S11 : Fr [] h10 h11 := by rw [← e11]; exact Fr.rf.new hadr
  have A11 : AL E h11 11 adr 0 [] := by rw [← e11]; exact AL.new (g1 (F10.tr (up1 (Fr.rf.new hadr)))) hup_self
  clear e11
  refine g_put O 0 5 rfl (S11 _ _ T10 (by simp)) (by decide) dX1_init_62 q183 rfl (by decide) rfl rfl rfl (by first | exact Nat.le_of_ble_eq_true rfl | omega) ?_
  refine Wg.abs (fun h12 e12 => ?_)
  have S12 : Fr [1] h11 h12 := by rw [← e12]; exact Fr.rf.up (S11 _ _ T10 (by simp)) (by decide)
  have T12 : h12 T = some (1, .inr (0, [.ref aw, .ref ae, .ref ast, .ref afi, .ref atx, .ref adr, .null, .null, .null])) := by rw [← e12]; exact hup_self
  clear e12
  have F12 : Fr [1] h h12 := (F10.tr (up1 S11)).tr S12
  refine g_aload_n O dX1_init_65 rfl (by first | rfl | exact rf_ref _) ?_
  refine g_new O 12 5 [.int 0, .null, .int 0] rfl dX1_init_66 q147 q148 q45 rfl (by first | exact Nat.le_of_ble_eq_true rfl | omega) (by first | exact Nat.le_of_ble_eq_true rfl | omega) (fun ase hase => ?_)
  refine g_dup O dX1_init_69 rfl ?_
  refine g_callI O (n := 0) (c_J4_init l E _ (g1 (F12.tr (up1 (Fr.rf.new hase)))) hup_self (by decide)) rfl dX1_init_70 q149 q150 q45 q151 rfl (by decide +kernel) rfl rfl (by first | decide | omega) (by decide) (by first | exact Nat.le_of_ble_eq_true rfl | omega) (by first | exact Nat.le_of_ble_eq_true rfl | omega) (by first | exact Nat.le_of_ble_eq_true rfl | omega) (fun v q1 hp => ?_)
  obtain ⟨rfl, rfl⟩ := hp
  refine Wg.H _ hup_hup ?_
  refine Wg.abs (fun h13 e13 => ?_)
  have S13 : Fr [] h12 h13 := by rw [← e13]; exact Fr.rf.new hase
  have A13 : AL E h13 12 ase 0 [] := by rw [← e13]; exact AL.new (g1 (F12.tr (up1 (Fr.rf.new hase)))) hup_self
  clear e13
  refine g_putF O 0 6 rfl (S13 _ _ T12 (by simp)) (by decide) dX1_init_73 q185 rfl (by decide) rfl rfl rfl rfl (by first | exact Nat.le_of_ble_eq_true rfl | omega) ?_
  refine Wg.abs (fun h14 e14 => ?_)
  have S14 : Fr [1] h13 h14 := by rw [← e14]; exact Fr.rf.up (S13 _ _ T12 (by simp)) (by decide)
  have T14 : h14 T = some (1, .inr (0, [.ref aw, .ref ae, .ref ast, .ref afi, .ref atx, .ref adr, .ref ase, .null, .null])) := by rw [← e14]; exact hup_self
  clear e14
  have F14 : Fr [1] h h14 := (F12.tr (up1 S13)).tr S14
  refine g_aload_n O dX1_init_76 rfl (by first | rfl | exact rf_ref _) ?_
  refine g_iconst O dX1_init_77 (nI 5) rfl ?_
  refine g_newa O 13 0 5 (5, .inl (fun _ => 0)) dX1_init_78 rfl rfl rfl (by decide) q176 (by first | exact Nat.le_of_ble_eq_true rfl | omega) (by first | exact Nat.le_of_ble_eq_true rfl | omega) (fun alo halo => ?_)
  refine Wg.abs (fun h15 e15 => ?_)
  have S15 : Fr [] h14 h15 := by rw [← e15]; exact Fr.rf.new halo
  have L15 : h15 alo = some (13, cInts E 5 (fun _ => 0)) := by rw [← e15]; exact hup_self
  clear e15
  refine g_putF O 0 7 rfl (S15 _ _ T14 (by simp)) (by decide) dX1_init_80 q187 rfl (by decide) rfl rfl rfl rfl (by first | exact Nat.le_of_ble_eq_true rfl | omega) ?_
  refine g_aload_n O dX1_init_83 rfl (by first | rfl | exact rf_ref _) ?_
  refine g_ldcE O dX1_init_84 rfl ?_
  refine g_put O 0 8 rfl hup_self (by decide) dX1_init_86 q188 rfl (by decide) rfl rfl rfl (by first | exact Nat.le_of_ble_eq_true rfl | omega) ?_
  refine Wg.H _ hup_hup ?_
  have S16 : Fr [1] h15 (hup h15 T (1, .inr (0, [.ref aw, .ref ae, .ref ast, .ref afi, .ref atx, .ref adr, .ref ase, .ref alo, .ref (gc E 0)]))) := Fr.rf.up (S15 _ _ T14 (by simp)) (by decide)
  have G14 := (up1 S15).tr S16
  have G12 := ((up1 S13).tr S14).tr G14
  have G10 := ((up1 S11).tr S12).tr G12
  have G8 := ((up1 S9).tr S10).tr G10
  have G7 := S8.tr G8
  have G5 := (S6.tr (up1 S7)).tr G7
  have G4 := (up1 S5).tr G5
  refine g_vret O dX1_init_89 (by decide) (by decide) ⟨rfl, F8.tr G8, aw, ae, ast, afi, atx, adr, ase, alo, hup_self, W4.fr G4 (by decide) (by decide) (by decide) (by decide), N4.fr G4 (by decide) (by decide) (by decide) (by decide), M5.fr G5 (by decide), V7.fr G7 (by decide), A9.fr (S10.tr G10) (by decide) (by decide), A11.fr (S12.tr G12) (by decide) (by decide), A13.fr (S14.tr G14) (by decide) (by decide), S16 _ _ L15 (show 13 ∉ [1] by decide)⟩
