set_option maxRecDepth 100000
/-! TreeMap.put of a key that is not yet there -/
theorem hup_hup {h : HV} {a : Nat} {c d : Nat × va_E} : hup (hup h a c) a d = hup h a d := by
  funext b
  by_cases hb : b = a
  · subst hb; rw [hup_self, hup_self]
  · rw [hup_ne hb, hup_ne hb, hup_ne hb]
theorem c_J27_init (l : Launch) (E : GE) (h : HV) {a lab k v : Nat} {x1 x2 x3 x4 x5 x6 : Value} {q : Option Nat} (ha : h a = some (lab, .inr (4, [x1, x2, x3, x4, x5, x6]))) (hm : lab ≠ 0) : Cg l E yJ27_init cJ27_init 4 none 1 0 0 [.ref a, .ref k, .ref v, va_rf q] h (fun v' h' => v' = none ∧ hup h a (lab, .inr (4, [.ref k, .ref v, x3, x4, va_rf q, .int (nI 1)])) = h') := by
  cases q
  all_goals
    refine Cg.of (by first | exact plainFor_of_name (by decide) | decide +kernel) [some (.ref a), some (.ref k), some (.ref v), some (va_rf _)] (Nat.le_of_ble_eq_true rfl) rfl ?_
    intro p e s m args below meth c O
    refine g_aload_n O dJ27_init_0 rfl (by first | rfl | exact rf_ref _) ?_
    refine g_objInit O rfl q1084 q87 q88 dJ27_init_1 (by decide) (by first | exact Nat.le_of_ble_eq_true rfl | omega) ?_
    refine g_aload_n O dJ27_init_4 rfl (by first | rfl | exact rf_ref _) ?_
    refine g_iconst O dJ27_init_5 (nI 1) rfl ?_
    refine g_put O 4 5 rfl ha hm dJ27_init_6 q1093 rfl (by decide) rfl rfl rfl (by first | exact Nat.le_of_ble_eq_true rfl | omega) ?_
    refine g_aload_n O dJ27_init_9 rfl (by first | rfl | exact rf_ref _) ?_
    refine g_aload_n O dJ27_init_10 rfl (by first | rfl | exact rf_ref _) ?_
    refine g_put O 4 0 rfl hup_self hm dJ27_init_11 q1085 rfl (by decide) rfl rfl rfl (by first | exact Nat.le_of_ble_eq_true rfl | omega) ?_
    refine g_aload_n O dJ27_init_14 rfl (by first | rfl | exact rf_ref _) ?_
    refine g_aload_n O dJ27_init_15 rfl (by first | rfl | exact rf_ref _) ?_
    refine g_put O 4 1 rfl hup_self hm dJ27_init_16 q1087 rfl (by decide) rfl rfl rfl (by first | exact Nat.le_of_ble_eq_true rfl | omega) ?_
    refine g_aload_n O dJ27_init_19 rfl (by first | rfl | exact rf_ref _) ?_
    refine g_aload_n O dJ27_init_20 rfl (by first | rfl | exact rf_ref _) ?_
    refine g_put O 4 4 rfl hup_self hm dJ27_init_21 q1091 rfl (by decide) rfl rfl rfl (by first | exact Nat.le_of_ble_eq_true rfl | omega) ?_
    exact g_vret O dJ27_init_24 (by first | exact Nat.le_of_ble_eq_true rfl | omega) (by first | exact Nat.le_of_ble_eq_true rfl | omega) ⟨rfl, by rw [hup_hup, hup_hup, hup_hup]; rfl⟩
theorem c_J1_compare (l : Launch) (E : GE) (h : HV) {t lab a1 a2 : Nat} {root : Option Nat} {sz mo : Int32} {t1 t2 : List Nat} (ht : h t = some (lab, cMap root sz mo)) (hA1 : Str E h a1 t1) (hA2 : Str E h a2 t2) (hn : t1.length ≤ 7 ∨ t2.length ≤ 7) : Cg l E yJ1_compare cJ1_compare 3 (some .int) 5 0 0 [.ref t, .ref a1, .ref a2] h (fun v h' => (∃ r : Int32, v = some (.int r) ∧ r.toInt = cmpW t1 t2) ∧ h = h') := by
  obtain ⟨fs, hcell⟩ := hA1.cell
  refine Cg.of (by first | exact plainFor_of_name (by decide) | decide +kernel) [some (.ref t), some (.ref a1), some (.ref a2)] (Nat.le_of_ble_eq_true rfl) rfl ?_
  intro p e s m args below meth c O
  refine g_aload_n O dJ1_compare_0 rfl (by first | rfl | exact rf_ref _) ?_
  refine g_get O 3 2 rfl ht dJ1_compare_1 q110 rfl (by decide) rfl rfl ?_
  refine g_ifnonnull O 20 dJ1_compare_4 (by decide) rfl (fun hc => ?_) (fun hc_a hc => ?_)
  · refine g_aload_n O dJ1_compare_7 rfl (by first | rfl | exact rf_ref _) ?_
    refine g_cast O rfl hcell q1022 q1017 dJ1_compare_8 ?_
    refine g_aload_n O dJ1_compare_11 rfl (by first | rfl | exact rf_ref _) ?_
    refine g_callF O (n := 1) (x := ⟨"java/lang/Comparable", "compareTo", "(Ljava/lang/Object;)I"⟩) (c_J9_compareTo_2 l E h hA1 hA2 hn) rfl rfl hcell dJ1_compare_12 q1019 q1025 q1023 q51 q1027 q1021 q1026 q1024 q1022 (O.k.2.2.2.2.2.2.2.1 _ (by decide)) (by decide +kernel) rfl rfl (by first | decide | omega) (by decide) (by first | exact Nat.le_of_ble_eq_true rfl | omega) (by first | exact Nat.le_of_ble_eq_true rfl | omega) (by first | exact Nat.le_of_ble_eq_true rfl | omega) (fun v h1 hp => ?_)
    obtain ⟨⟨r, rfl, hm⟩, rfl⟩ := hp
    refine g_goto O 31 dJ1_compare_17 (by decide) ?_
    exact g_iret O dJ1_compare_31 (by first | exact Nat.le_of_ble_eq_true rfl | omega) (by first | exact Nat.le_of_ble_eq_true rfl | omega) ⟨⟨r, rfl, hm⟩, rfl⟩
  · cases hc
theorem ov_new {E : GE} {h : HV} {lab t n k v : Nat} {il il' : List Nat} {K V : Nat → Nat} {W : Nat → List Nat} {lf rt pa : Nat → Option Nat} {co : Nat → Bool} {root q : Option Nat} {sz mo : Int32} (T : TB E h lab t il K V W lf rt pa co root sz mo) (hn : h n = none) (hmem : ∀ b, b ∈ il' ↔ b = n ∨ b ∈ il) : hup h n (lab, cEnt k v none none q true) = ov h lab t il' (fu K n k) (fu V n v) (fu lf n none) (fu rt n none) (fu pa n q) (fu co n true) root sz mo := by
  have hnt : n ≠ t := fun z => by rw [z, T.1] at hn; cases hn
  funext b
  unfold ov
  by_cases hb : b = n
  · subst hb
    rw [hup_self, if_neg hnt, if_pos ((hmem b).mpr (Or.inl rfl)), fu_self, fu_self, fu_self, fu_self, fu_self, fu_self]
  · rw [hup_ne hb]
    by_cases ht : b = t
    · rw [if_pos ht, ht, T.1]
    · rw [if_neg ht]
      by_cases hi : b ∈ il
      · rw [if_pos ((hmem b).mpr (Or.inr hi)), fu_ne hb, fu_ne hb, fu_ne hb, fu_ne hb, fu_ne hb, fu_ne hb]
        exact T.2.1 b hi
      · rw [if_neg (fun z => ((hmem b).mp z).elim hb hi)]
theorem TB.fresh {E : GE} {h : HV} {lab t n : Nat} {il : List Nat} {K V : Nat → Nat} {W : Nat → List Nat} {lf rt pa : Nat → Option Nat} {co : Nat → Bool} {root : Option Nat} {sz mo : Int32} (T : TB E h lab t il K V W lf rt pa co root sz mo) (hn : h n = none) : n ∉ il ∧ t ≠ n := ⟨fun z => (by have := T.2.1 n z; rw [hn] at this; cases this), fun z => (by have := T.1; rw [z, hn] at this; cases this)⟩
theorem c_J1_addEntry (l : Launch) (E : GE) (h : HV) {lab t k v P : Nat} {il : List Nat} {K V : Nat → Nat} {W : Nat → List Nat} {lf rt pa : Nat → Option Nat} {co : Nat → Bool} {root : Option Nat} {sz mo : Int32} {d : Bool} {ls : List Nat} {cs : List (Bool × Nat × List Nat)} (hlab : lab ≠ 0) (T : TB E h lab t il K V W lf rt pa co root sz mo) (hC : Cx lf rt pa root ((d, P, ls) :: cs) none (some P)) (hil : il = plug ((d, P, ls) :: cs) []) : Cg l E yJ1_addEntry cJ1_addEntry 6 none 2 1 6 [.ref t, .ref k, .ref v, .ref P, .int (bI d)] h (fun v' h' => v' = none ∧ ∃ (n : Nat) (lf' rt' pa' : Nat → Option Nat) (co' : Nat → Bool) (root' : Option Nat) (sz' mo' : Int32), h n = none ∧ Tr lf' rt' pa' root' none (plug ((d, P, ls) :: cs) [n]) ∧ (∀ r, root' = some r → co' r = true) ∧ ov h lab t (plug ((d, P, ls) :: cs) [n]) (fu K n k) (fu V n v) lf' rt' pa' co' root' sz' mo' = h') := by
  obtain ⟨hmem, hnod⟩ := plug_of hil T.2.2.2.1
  have hPi : P ∈ il := hmem P (by simp [cel])
  refine Cg.of (by first | exact plainFor_of_name (by decide) | decide +kernel) [some (.ref t), some (.ref k), some (.ref v), some (.ref P), some (.int (bI d)), none] (Nat.le_of_ble_eq_true rfl) rfl ?_
  intro p e s m args below meth c O
  refine g_new O lab 4 [.null, .null, .null, .null, .null, .int 0] rfl dJ1_addEntry_0 q1079 q1080 q74 rfl (by first | exact Nat.le_of_ble_eq_true rfl | omega) (by first | exact Nat.le_of_ble_eq_true rfl | omega) (fun n hn => ?_)
  refine g_dup O dJ1_addEntry_3 rfl ?_
  refine g_aload_n O dJ1_addEntry_4 rfl (by first | rfl | exact rf_ref _) ?_
  refine g_aload_n O dJ1_addEntry_5 rfl (by first | rfl | exact rf_ref _) ?_
  refine g_aload_n O dJ1_addEntry_6 rfl (by first | rfl | exact rf_ref _) ?_
  refine g_callI O (n := 3) (c_J27_init l E _ (q := some P) hup_self hlab) rfl dJ1_addEntry_7 q1081 q1082 q74 q1083 rfl (by decide +kernel) rfl rfl (by first | decide | omega) (by decide) (by first | exact Nat.le_of_ble_eq_true rfl | omega) (by first | exact Nat.le_of_ble_eq_true rfl | omega) (by first | exact Nat.le_of_ble_eq_true rfl | omega) (fun v h1 hp => ?_)
  obtain ⟨rfl, rfl⟩ := hp
  obtain ⟨hni, hnt⟩ := T.fresh hn
  have hnP : P ≠ n := fun z => hni (z ▸ hPi)
  have hmem' : ∀ b, b ∈ plug ((d, P, ls) :: cs) [n] ↔ b = n ∨ b ∈ il := fun b => by
    rw [hil, plug_ab, plug_ab]
    simp only [List.mem_append, List.mem_cons, List.not_mem_nil, or_false]
    grind
  refine Wg.H _ (hup_hup.trans (ov_new (q := some P) T hn hmem')) ?_
  have ht' : t ∉ plug ((d, P, ls) :: cs) [n] := fun z => ((hmem' t).mp z).elim hnt T.nt
  have hPi' : P ∈ plug ((d, P, ls) :: cs) [n] := (hmem' P).mpr (Or.inr hPi)
  have hnc : n ∉ cel ((d, P, ls) :: cs) := fun z => hni (hmem n (by simpa using z))
  have hcN : (cel ((d, P, ls) :: cs)).Nodup := by simpa using hnod
  have hN' : (plug ((d, P, ls) :: cs) [n]).Nodup := (plug_perm _ [n]).nodup_iff.mpr (List.nodup_cons.mpr ⟨hnc, hcN⟩)
  have tail : ∀ (lf1 rt1 : Nat → Option Nat), lf1 n = none → rt1 n = none → Cx lf1 rt1 (fu pa n (some P)) root ((d, P, ls) :: cs) (some n) (some P) → Wg p l e (rmG 2 1 6) s m args below meth c E (MQ below (gQ E (fun v' h' => v' = none ∧ ∃ (n : Nat) (lf' rt' pa' : Nat → Option Nat) (co' : Nat → Bool) (root' : Option Nat) (sz' mo' : Int32), h n = none ∧ Tr lf' rt' pa' root' none (plug ((d, P, ls) :: cs) [n]) ∧ (∀ r, root' = some r → co' r = true) ∧ ov h lab t (plug ((d, P, ls) :: cs) [n]) (fu K n k) (fu V n v) lf' rt' pa' co' root' sz' mo' = h')) args s 1 6 (gA E)) 32 [some (.ref t), some (.ref k), some (.ref v), some (.ref P), some (.int (bI d)), some (.ref n)] [] (ov h lab t (plug ((d, P, ls) :: cs) [n]) (fu K n k) (fu V n v) lf1 rt1 (fu pa n (some P)) (fu co n true) root sz mo) 1 6 := by
    intro lf1 rt1 h1 h2 h3
    refine g_aload_n O dJ1_addEntry_32 rfl (by first | rfl | exact rf_ref _) ?_
    refine g_aload O dJ1_addEntry_33 rfl (by first | rfl | exact rf_ref _) ?_
    refine g_callV O (n := 1) (c_J1_fixAfterInsertion l E h (x0 := n) (m1 := []) (m2 := []) (cs0 := (d, P, ls) :: cs) ht' hlab hN' (by rw [fu_self]; exact h3) (by rw [h1]; exact Tr.nil) (by rw [h2]; exact Tr.nil) rfl (fun r hr hne => by rw [fu_ne hne]; exact T.2.2.2.2.1 r hr)) rfl rfl ov_t dJ1_addEntry_35 q1112 q1114 qs10 q41 q1115 rfl (by decide +kernel) rfl rfl (by first | decide | omega) (by decide) (by first | exact Nat.le_of_ble_eq_true rfl | omega) (Nat.le_refl _) (Nat.le_refl _) (fun v1 h1 hp => ?_)
    obtain ⟨rfl, lf', rt', pa', co', root', tR, hb, rfl⟩ := hp
    refine g_aload_n O dJ1_addEntry_38 rfl (by first | rfl | exact rf_ref _) ?_
    refine g_dup O dJ1_addEntry_39 rfl ?_
    refine g_get O 3 4 rfl ov_t dJ1_addEntry_40 q112 rfl (by decide) rfl rfl ?_
    refine g_iconst O dJ1_addEntry_43 (nI 1) rfl ?_
    refine g_iadd O dJ1_addEntry_44 ?_
    refine g_put O 3 4 rfl ov_t hlab dJ1_addEntry_45 q112 rfl (by decide) rfl rfl rfl (by first | exact Nat.le_of_ble_eq_true rfl | omega) ?_
    refine Wg.H _ ov_mp ?_
    refine g_aload_n O dJ1_addEntry_48 rfl (by first | rfl | exact rf_ref _) ?_
    refine g_dup O dJ1_addEntry_49 rfl ?_
    refine g_get O 3 5 rfl ov_t dJ1_addEntry_50 q113 rfl (by decide) rfl rfl ?_
    refine g_iconst O dJ1_addEntry_53 (nI 1) rfl ?_
    refine g_iadd O dJ1_addEntry_54 ?_
    refine g_put O 3 5 rfl ov_t hlab dJ1_addEntry_55 q113 rfl (by decide) rfl rfl rfl (by first | exact Nat.le_of_ble_eq_true rfl | omega) ?_
    refine Wg.H _ ov_mp ?_
    exact g_vret O dJ1_addEntry_58 (Nat.le_refl _) (Nat.le_refl _) ⟨rfl, n, lf', rt', pa', co', root', _, _, hn, tR, hb, rfl⟩
  refine g_astore O dJ1_addEntry_10 (by first | rfl | exact rf_ref _) (by first | rfl | exact rf_lst ⟨rfl, rfl⟩) ?_
  refine g_iload O dJ1_addEntry_12 rfl ?_
  cases d
  · refine g_if_eq O 26 dJ1_addEntry_14 (by decide) (fun hc => ?_) (fun hc => ?_)
    · refine g_aload_n O dJ1_addEntry_26 rfl (by first | rfl | exact rf_ref _) ?_
      refine g_aload O dJ1_addEntry_27 rfl (by first | rfl | exact rf_ref _) ?_
      refine g_put O 4 3 rfl (ov_e ht' hPi') hlab dJ1_addEntry_29 q1090 rfl (by decide) rfl rfl rfl (by first | exact Nat.le_of_ble_eq_true rfl | omega) ?_
      refine Wg.H _ (ov_rt (x := some n) ht' hPi') ?_
      refine tail _ _ fu_self ((fu_ne (Ne.symm hnP)).trans fu_self) ?_
      refine Cx.attach hC hnc hcN (fun b z1 z2 => fu_ne z1) (fun b z1 z2 => (fu_ne z2).trans (fu_ne z1)) (fun b z => fu_ne z) ?_
      exact ⟨fu_self, fu_ne hnP⟩
    · exact absurd rfl hc
  · refine g_if_eq O 26 dJ1_addEntry_14 (by decide) (fun hc => ?_) (fun hc => ?_)
    · exact absurd hc (by decide)
    · refine g_aload_n O dJ1_addEntry_17 rfl (by first | rfl | exact rf_ref _) ?_
      refine g_aload O dJ1_addEntry_18 rfl (by first | rfl | exact rf_ref _) ?_
      refine g_put O 4 2 rfl (ov_e ht' hPi') hlab dJ1_addEntry_20 q1089 rfl (by decide) rfl rfl rfl (by first | exact Nat.le_of_ble_eq_true rfl | omega) ?_
      refine g_goto O 32 dJ1_addEntry_23 (by decide) ?_
      refine Wg.H _ (ov_lf (x := some n) ht' hPi') ?_
      refine tail _ _ ((fu_ne (Ne.symm hnP)).trans fu_self) fu_self ?_
      refine Cx.attach hC hnc hcN (fun b z1 z2 => (fu_ne z2).trans (fu_ne z1)) (fun b z1 z2 => fu_ne z1) (fun b z => fu_ne z) ?_
      exact ⟨fu_self, fu_ne hnP⟩
theorem c_J1_addEntryToEmptyMap (l : Launch) (E : GE) (h : HV) {lab t k v : Nat} {K V : Nat → Nat} {W : Nat → List Nat} {lf rt pa : Nat → Option Nat} {co : Nat → Bool} {root : Option Nat} {sz mo : Int32} {w : List Nat} (hlab : lab ≠ 0) (T : TB E h lab t [] K V W lf rt pa co root sz mo) (hw : Str E h k w) (hl : w.length ≤ 7) : Cg l E yJ1_addEntryToEmptyMap cJ1_addEntryToEmptyMap 3 none 6 1 6 [.ref t, .ref k, .ref v] h (fun v' h' => v' = none ∧ ∃ (n : Nat) (sz' mo' : Int32), h n = none ∧ ov h lab t [n] (fu K n k) (fu V n v) (fu lf n none) (fu rt n none) (fu pa n none) (fu co n true) (some n) sz' mo' = h') := by
  refine Cg.of (by first | exact plainFor_of_name (by decide) | decide +kernel) [some (.ref t), some (.ref k), some (.ref v)] (Nat.le_of_ble_eq_true rfl) rfl ?_
  intro p e s m args below meth c O
  refine g_aload_n O dJ1_addEntryToEmptyMap_0 rfl (by first | rfl | exact rf_ref _) ?_
  refine g_aload_n O dJ1_addEntryToEmptyMap_1 rfl (by first | rfl | exact rf_ref _) ?_
  refine g_aload_n O dJ1_addEntryToEmptyMap_2 rfl (by first | rfl | exact rf_ref _) ?_
  refine g_callV O (n := 2) (c_J1_compare l E h T.1 hw hw (Or.inl hl)) rfl rfl T.1 dJ1_addEntryToEmptyMap_3 q1075 q1076 q1077 q41 q1078 rfl (by decide +kernel) rfl rfl (by first | decide | omega) (by decide) (by first | exact Nat.le_of_ble_eq_true rfl | omega) (by first | exact Nat.le_of_ble_eq_true rfl | omega) (by first | exact Nat.le_of_ble_eq_true rfl | omega) (fun v h1 hp => ?_)
  obtain ⟨⟨r, rfl, -⟩, rfl⟩ := hp
  refine g_pop O dJ1_addEntryToEmptyMap_6 rfl ?_
  refine g_aload_n O dJ1_addEntryToEmptyMap_7 rfl (by first | rfl | exact rf_ref _) ?_
  refine g_new O lab 4 [.null, .null, .null, .null, .null, .int 0] rfl dJ1_addEntryToEmptyMap_8 q1079 q1080 q74 rfl (by first | exact Nat.le_of_ble_eq_true rfl | omega) (by first | exact Nat.le_of_ble_eq_true rfl | omega) (fun n hn => ?_)
  refine g_dup O dJ1_addEntryToEmptyMap_11 rfl ?_
  refine g_aload_n O dJ1_addEntryToEmptyMap_12 rfl (by first | rfl | exact rf_ref _) ?_
  refine g_aload_n O dJ1_addEntryToEmptyMap_13 rfl (by first | rfl | exact rf_ref _) ?_
  refine g_null O dJ1_addEntryToEmptyMap_14 ?_
  refine g_callI O (n := 3) (c_J27_init l E _ (q := none) hup_self hlab) rfl dJ1_addEntryToEmptyMap_15 q1081 q1082 q74 q1083 rfl (by decide +kernel) rfl rfl (by first | decide | omega) (by decide) (by first | exact Nat.le_of_ble_eq_true rfl | omega) (by first | exact Nat.le_of_ble_eq_true rfl | omega) (by first | exact Nat.le_of_ble_eq_true rfl | omega) (fun v h1 hp => ?_)
  obtain ⟨rfl, rfl⟩ := hp
  refine Wg.H _ (hup_hup.trans (ov_new (q := none) (il' := [n]) T hn (fun b => by simp))) ?_
  refine g_put O 3 3 rfl ov_t hlab dJ1_addEntryToEmptyMap_18 q111 rfl (by decide) rfl rfl rfl (by first | exact Nat.le_of_ble_eq_true rfl | omega) ?_
  refine Wg.H _ (ov_mp (root' := some n)) ?_
  refine g_aload_n O dJ1_addEntryToEmptyMap_21 rfl (by first | rfl | exact rf_ref _) ?_
  refine g_iconst O dJ1_addEntryToEmptyMap_22 (nI 1) rfl ?_
  refine g_put O 3 4 rfl ov_t hlab dJ1_addEntryToEmptyMap_23 q112 rfl (by decide) rfl rfl rfl (by first | exact Nat.le_of_ble_eq_true rfl | omega) ?_
  refine Wg.H _ ov_mp ?_
  refine g_aload_n O dJ1_addEntryToEmptyMap_26 rfl (by first | rfl | exact rf_ref _) ?_
  refine g_dup O dJ1_addEntryToEmptyMap_27 rfl ?_
  refine g_get O 3 5 rfl ov_t dJ1_addEntryToEmptyMap_28 q113 rfl (by decide) rfl rfl ?_
  refine g_iconst O dJ1_addEntryToEmptyMap_31 (nI 1) rfl ?_
  refine g_iadd O dJ1_addEntryToEmptyMap_32 ?_
  refine g_put O 3 5 rfl ov_t hlab dJ1_addEntryToEmptyMap_33 q113 rfl (by decide) rfl rfl rfl (by first | exact Nat.le_of_ble_eq_true rfl | omega) ?_
  refine Wg.H _ ov_mp ?_
  exact g_vret O dJ1_addEntryToEmptyMap_36 (Nat.le_refl _) (Nat.le_refl _) ⟨rfl, n, _, _, hn, rfl⟩
theorem TB.add {E : GE} {h : HV} {lab t n k v : Nat} {A B : List Nat} {K V : Nat → Nat} {W : Nat → List Nat} {lf rt pa : Nat → Option Nat} {co : Nat → Bool} {root : Option Nat} {sz mo : Int32} {w : List Nat} {f : List Nat → Option Nat} {lf' rt' pa' : Nat → Option Nat} {co' : Nat → Bool} {root' : Option Nat} {sz' mo' : Int32} (hlab : lab ≠ 0) (T : TB E h lab t (A ++ B) K V W lf rt pa co root sz mo) (hn : h n = none) (hw : Str E h k w) (hA : ∀ b ∈ A, cmpW (W b) w < 0) (hB : ∀ b ∈ B, cmpW w (W b) < 0) (tR : Tr lf' rt' pa' root' none (A ++ [n] ++ B)) (hb : ∀ r, root' = some r → co' r = true) (hf1 : ∀ a ∈ A ++ B, f (W a) = some (V a)) (hf2 : ∀ w r, f w = some r → ∃ a ∈ A ++ B, W a = w) (hfw : f w = none) :
    TM E (ov h lab t (A ++ [n] ++ B) (fu K n k) (fu V n v) lf' rt' pa' co' root' sz' mo') lab t (fun w' => if w' = w then some v else f w') ∧ Fr [lab] h (ov h lab t (A ++ [n] ++ B) (fu K n k) (fu V n v) lf' rt' pa' co' root' sz' mo') := by
  obtain ⟨hni, hnt⟩ := T.fresh hn
  have hmem : ∀ b, b ∈ A ++ [n] ++ B ↔ b = n ∨ b ∈ A ++ B := fun b => by
    simp only [List.mem_append, List.mem_cons, List.not_mem_nil, or_false]
    grind
  have ht' : t ∉ A ++ [n] ++ B := fun z => ((hmem t).mp z).elim hnt T.nt
  have F : Fr [lab] h (ov h lab t (A ++ [n] ++ B) (fu K n k) (fu V n v) lf' rt' pa' co' root' sz' mo') := by
    intro b c hb hc
    have h1 : b ≠ t := fun z => by rw [z, T.1] at hb; cases hb; exact hc (by simp)
    have h2 : b ∉ A ++ [n] ++ B := fun z => by
      rcases (hmem b).mp z with z | z
      · rw [z, hn] at hb; cases hb
      · rw [T.2.1 b z] at hb; cases hb; exact hc (by simp)
    rw [ov_n h1 h2]
    exact hb
  have h0 : 0 ∉ [lab] := fun z => hlab (List.mem_singleton.mp z).symm
  have hne : ∀ b, b ∈ A ++ B → b ≠ n := fun b hb z => hni (z ▸ hb)
  have hN : (A ++ [n] ++ B).Nodup := by
    have h1 : (A ++ [n] ++ B).Perm (n :: (A ++ B)) := by
      rw [List.append_assoc]
      exact List.perm_middle
    exact h1.nodup_iff.mpr (List.nodup_cons.mpr ⟨hni, T.2.2.2.1⟩)
  refine ⟨⟨A ++ [n] ++ B, fu K n k, fu V n v, fu W n w, lf', rt', pa', co', root', sz', mo', ⟨ov_t, fun a ha => ov_e ht' ha, tR, hN, hb, ?_, ?_⟩, ?_, ?_⟩, F⟩
  · intro a ha
    rcases (hmem a).mp ha with z | z
    · subst z
      rw [fu_self, fu_self]
      exact hw.fr F h0
    · rw [fu_ne (hne a z), fu_ne (hne a z)]
      exact (T.2.2.2.2.2.1 a z).fr F h0
  · have hp := List.pairwise_append.mp T.2.2.2.2.2.2
    have e1 : ∀ b ∈ A, fu W n w b = W b := fun b hb => fu_ne (hne b (by simp [hb]))
    have e2 : ∀ b ∈ B, fu W n w b = W b := fun b hb => fu_ne (hne b (by simp [hb]))
    refine List.pairwise_append.mpr ⟨List.pairwise_append.mpr ⟨hp.1.imp_of_mem (fun ha hb z => by rw [e1 _ ha, e1 _ hb]; exact z), List.pairwise_singleton _ _, fun a ha b hb => ?_⟩, hp.2.1.imp_of_mem (fun ha hb z => by rw [e2 _ ha, e2 _ hb]; exact z), fun a ha b hb => ?_⟩
    · obtain rfl : b = n := by simpa using hb
      rw [e1 a ha, fu_self]
      exact hA a ha
    · rw [e2 b hb]
      rcases List.mem_append.mp ha with z | z
      · rw [e1 a z]; exact hp.2.2 a z b hb
      · obtain rfl : a = n := by simpa using z
        rw [fu_self]
        exact hB b hb
  · intro a ha
    rcases (hmem a).mp ha with z | z
    · subst z
      rw [fu_self, fu_self]
      exact if_pos rfl
    · rw [fu_ne (hne a z), fu_ne (hne a z)]
      have e : W a ≠ w := fun e => (by have := hf1 a z; rw [e, hfw] at this; cases this)
      exact (if_neg e).trans (hf1 a z)
  · intro w' r hr
    by_cases e : w' = w
    · exact ⟨n, (hmem n).mpr (Or.inl rfl), by rw [fu_self, e]⟩
    · have hr : (if w' = w then some v else f w') = some r := hr
      rw [if_neg e] at hr
      obtain ⟨a, ha, hW⟩ := hf2 w' r hr
      exact ⟨a, (hmem a).mpr (Or.inr ha), by rw [fu_ne (hne a ha)]; exact hW⟩
theorem c_J1_put_2 (l : Launch) (E : GE) (h : HV) {lab t a v : Nat} {f : List Nat → Option Nat} {w : List Nat} (hlab : lab ≠ 0) (T : TM E h lab t f) (hw : Str E h a w) (hl : w.length ≤ 7) (hfw : f w = none) : Cg l E yJ1_put_2 cJ1_put_2 10 (some (.object "java/lang/Object")) 7 1 6 [.ref t, .ref a, .ref v, .int (nI 1)] h (fun v' h' => v' = some .null ∧ TM E h' lab t (fun w' => if w' = w then some v else f w') ∧ Fr [lab] h h') := by
  obtain ⟨il, K, V, W, lf, rt, pa, co, root, sz, mo, T, hf1, hf2⟩ := T
  obtain ⟨fs, hcell⟩ := hw.cell
  have t3 := T.2.2.1
  have t7 := T.2.2.2.2.2.2
  refine Cg.of (by first | exact plainFor_of_name (by decide) | decide +kernel) [some (.ref t), some (.ref a), some (.ref v), some (.int (nI 1)), none, none, none, none, none, none] (Nat.le_of_ble_eq_true rfl) rfl ?_
  intro p e s m args below meth c O
  refine g_aload_n O dJ1_put_2_0 rfl (by first | rfl | exact rf_ref _) ?_
  refine g_get O 3 3 rfl T.1 dJ1_put_2_1 q111 rfl (by decide) rfl rfl ?_
  rcases hroot : root with _ | x0
  · have hnil : il = [] := by rw [hroot] at t3; exact t3.non
    subst hnil
    refine g_astore O dJ1_put_2_4 (by first | rfl | exact rf_ref _) (by first | rfl | exact rf_lst ⟨rfl, rfl⟩) ?_
    refine g_aload O dJ1_put_2_6 rfl (by first | rfl | exact rf_ref _) ?_
    refine g_ifnonnull O 19 dJ1_put_2_8 (by decide) rfl (fun hc => ?_) (fun hc_a hc => ?_)
    · refine g_aload_n O dJ1_put_2_11 rfl (by first | rfl | exact rf_ref _) ?_
      refine g_aload_n O dJ1_put_2_12 rfl (by first | rfl | exact rf_ref _) ?_
      refine g_aload_n O dJ1_put_2_13 rfl (by first | rfl | exact rf_ref _) ?_
      refine g_callV O (n := 2) (c_J1_addEntryToEmptyMap l E h hlab T hw hl) rfl rfl T.1 dJ1_put_2_14 q1071 q1073 qs8 q41 q1074 rfl (by decide +kernel) rfl rfl (by first | decide | omega) (by decide) (by first | exact Nat.le_of_ble_eq_true rfl | omega) (Nat.le_refl _) (Nat.le_refl _) (fun v1 h1 hp => ?_)
      obtain ⟨rfl, n, sz', mo', hn, rfl⟩ := hp
      refine g_null O dJ1_put_2_17 ?_
      have hfin := TB.add (A := []) (B := []) (v := v) (sz' := sz') (mo' := mo') hlab T hn hw (fun b hb => absurd hb List.not_mem_nil) (fun b hb => absurd hb List.not_mem_nil) (lf' := fu lf n none) (rt' := fu rt n none) (pa' := fu pa n none) (co' := fu co n true) (root' := some n) (Tr.node' (l1 := []) (l2 := []) fu_self fu_self fu_self Tr.nil Tr.nil) (fun r hr => by cases hr; exact fu_self) hf1 hf2 hfw
      exact g_aret O dJ1_put_2_18 (by first | exact Or.inl ⟨_, rfl⟩ | exact Or.inr ⟨_, rfl⟩) (by first | exact Or.inl rfl | exact Or.inr ⟨_, rfl⟩) (Nat.le_refl _) (Nat.le_refl _) ⟨rfl, hfin.1, hfin.2⟩
    · cases hc
  · rw [hroot] at t3
    refine g_astore O dJ1_put_2_4 (by first | rfl | exact rf_ref _) (by first | rfl | exact rf_lst ⟨rfl, rfl⟩) ?_
    refine g_aload O dJ1_put_2_6 rfl (by first | rfl | exact rf_ref _) ?_
    refine g_ifnonnull O 19 dJ1_put_2_8 (by decide) rfl (fun hc => ?_) (fun hc_a hc => ?_)
    · cases hc
    · refine g_aload_n O dJ1_put_2_19 rfl (by first | rfl | exact rf_ref _) ?_
      refine g_get O 3 2 rfl T.1 dJ1_put_2_20 q110 rfl (by decide) rfl rfl ?_
      refine g_astore O dJ1_put_2_23 (by first | rfl | exact rf_ref _) (by first | rfl | exact rf_lst ⟨rfl, rfl⟩) ?_
      refine g_aload O dJ1_put_2_25 rfl (by first | rfl | exact rf_ref _) ?_
      refine g_ifnull O 112 dJ1_put_2_27 (by decide) rfl (fun hc2 => ?_) (fun hc2_a hc2 => ?_)
      · refine g_aload_n O dJ1_put_2_112 rfl (by first | rfl | exact rf_ref _) ?_
        refine g_callS O (n := 1) (c_J26_requireNonNull l E h) rfl dJ1_put_2_113 q1014 q1015 q73 q1016 (by decide +kernel) rfl rfl (by first | decide | omega) (by decide) (by first | exact Nat.le_of_ble_eq_true rfl | omega) (by first | exact Nat.le_of_ble_eq_true rfl | omega) (by first | exact Nat.le_of_ble_eq_true rfl | omega) (fun v h1 hp => ?_)
        obtain ⟨rfl, rfl⟩ := hp
        refine g_pop O dJ1_put_2_116 rfl ?_
        refine g_aload_n O dJ1_put_2_117 rfl (by first | rfl | exact rf_ref _) ?_
        refine g_cast O rfl hcell q1022 q1017 dJ1_put_2_118 ?_
        refine g_astore O dJ1_put_2_121 (by first | rfl | exact rf_ref _) (by first | rfl | exact rf_lst ⟨rfl, rfl⟩) ?_
        have insert : ∀ (d : Bool) (P : Nat) (ls : List Nat) (cs : List (Bool × Nat × List Nat)) (L5 : Int32), Cx lf rt pa root ((d, P, ls) :: cs) none (some P) → il = plug ((d, P, ls) :: cs) [] → (∀ b ∈ cA ((d, P, ls) :: cs), cmpW (W b) w < 0) → (∀ b ∈ cB ((d, P, ls) :: cs), cmpW w (W b) < 0) → (L5 < 0 ↔ d = true) → Wg p l e (rmG 7 1 6) s m args below meth c E (MQ below (gQ E (fun v' h' => v' = some .null ∧ TM E h' lab t (fun w' => if w' = w then some v else f w') ∧ Fr [lab] h h')) args s 1 6 (gA E)) 201 [some (.ref t), some (.ref a), some (.ref v), some (.int (nI 1)), none, some (.int L5), some (.ref P), some .null, some (.ref a), none] [] h 0 0 := by
          intro d P ls cs L5 hC hil hA hB hd
          have fin : ∀ (v' : Option Value) (h' : HV), (v' = none ∧ ∃ (n : Nat) (lf' rt' pa' : Nat → Option Nat) (co' : Nat → Bool) (root' : Option Nat) (sz' mo' : Int32), h n = none ∧ Tr lf' rt' pa' root' none (plug ((d, P, ls) :: cs) [n]) ∧ (∀ r, root' = some r → co' r = true) ∧ ov h lab t (plug ((d, P, ls) :: cs) [n]) (fu K n a) (fu V n v) lf' rt' pa' co' root' sz' mo' = h') → v' = none ∧ TM E h' lab t (fun w' => if w' = w then some v else f w') ∧ Fr [lab] h h' := by
            rintro v' h' ⟨rfl, n, lf', rt', pa', co', root', sz', mo', hn, tR, hb, rfl⟩
            rw [plug_ab] at tR hil
            rw [List.append_nil] at hil
            rw [plug_ab]
            subst hil
            exact ⟨rfl, TB.add hlab T hn hw hA hB tR hb hf1 hf2 hfw⟩
          cases d
          · refine g_aload_n O dJ1_put_2_201 rfl (by first | rfl | exact rf_ref _) ?_
            refine g_aload_n O dJ1_put_2_202 rfl (by first | rfl | exact rf_ref _) ?_
            refine g_aload_n O dJ1_put_2_203 rfl (by first | rfl | exact rf_ref _) ?_
            refine g_aload O dJ1_put_2_204 rfl (by first | rfl | exact rf_ref _) ?_
            refine g_iload O dJ1_put_2_206 rfl ?_
            refine g_if_ge O 215 dJ1_put_2_208 (by decide) (fun hc3 => ?_) (fun hc3 => ?_)
            · refine g_iconst O dJ1_put_2_215 (nI 0) rfl ?_
              refine g_callV O (n := 4) (c_J1_addEntry l E h (d := false) (v := v) (k := a) hlab T hC hil) rfl rfl T.1 dJ1_put_2_216 q1108 q1110 qs9 q41 q1111 rfl (by decide +kernel) rfl rfl (by first | decide | omega) (by decide) (by first | exact Nat.le_of_ble_eq_true rfl | omega) (Nat.le_refl _) (Nat.le_refl _) (fun v1 h1 hp => ?_)
              obtain ⟨rfl, hT, hF⟩ := fin _ _ hp
              refine g_null O dJ1_put_2_219 ?_
              exact g_aret O dJ1_put_2_220 (by first | exact Or.inl ⟨_, rfl⟩ | exact Or.inr ⟨_, rfl⟩) (by first | exact Or.inl rfl | exact Or.inr ⟨_, rfl⟩) (Nat.le_refl _) (Nat.le_refl _) ⟨rfl, hT, hF⟩
            · exact absurd (hd.mp (by first | exact Int32.not_le.mp hc3 | (rw [Int32.lt_iff_toInt_lt]; rw [Int32.le_iff_toInt_le] at hc3; omega))) (by decide)
          · refine g_aload_n O dJ1_put_2_201 rfl (by first | rfl | exact rf_ref _) ?_
            refine g_aload_n O dJ1_put_2_202 rfl (by first | rfl | exact rf_ref _) ?_
            refine g_aload_n O dJ1_put_2_203 rfl (by first | rfl | exact rf_ref _) ?_
            refine g_aload O dJ1_put_2_204 rfl (by first | rfl | exact rf_ref _) ?_
            refine g_iload O dJ1_put_2_206 rfl ?_
            refine g_if_ge O 215 dJ1_put_2_208 (by decide) (fun hc3 => ?_) (fun hc3 => ?_)
            · have h1 := hd.mpr rfl
              rw [Int32.lt_iff_toInt_lt] at h1
              rw [Int32.le_iff_toInt_le] at hc3
              exact absurd hc3 (by omega)
            · refine g_iconst O dJ1_put_2_211 (nI 1) rfl ?_
              refine g_goto O 216 dJ1_put_2_212 (by decide) ?_
              refine g_callV O (n := 4) (c_J1_addEntry l E h (d := true) (v := v) (k := a) hlab T hC hil) rfl rfl T.1 dJ1_put_2_216 q1108 q1110 qs9 q41 q1111 rfl (by decide +kernel) rfl rfl (by first | decide | omega) (by decide) (by first | exact Nat.le_of_ble_eq_true rfl | omega) (Nat.le_refl _) (Nat.le_refl _) (fun v1 h1 hp => ?_)
              obtain ⟨rfl, hT, hF⟩ := fin _ _ hp
              refine g_null O dJ1_put_2_219 ?_
              exact g_aret O dJ1_put_2_220 (by first | exact Or.inl ⟨_, rfl⟩ | exact Or.inr ⟨_, rfl⟩) (by first | exact Or.inl rfl | exact Or.inr ⟨_, rfl⟩) (Nat.le_refl _) (Nat.le_refl _) ⟨rfl, hT, hF⟩
        have loop : ∀ n (cs : List (Bool × Nat × List Nat)) (x : Nat) (k : List Nat), k.length ≤ n → Cx lf rt pa root cs (some x) (pa x) → Tr lf rt pa (some x) (pa x) k → il = plug cs k → (∀ b ∈ cA cs, cmpW (W b) w < 0) → (∀ b ∈ cB cs, cmpW w (W b) < 0) → Wg p l e (rmG 7 1 6) s m args below meth c E (MQ below (gQ E (fun v' h' => v' = some .null ∧ TM E h' lab t (fun w' => if w' = w then some v else f w') ∧ Fr [lab] h h')) args s 1 6 (gA E)) 123 [some (.ref t), some (.ref a), some (.ref v), some (.int (nI 1)), some (.ref x), none, none, some .null, some (.ref a), none] [] h 0 0 := by
          intro n
          induction n with
          | zero =>
            intro cs x k hk hC tk hil hA hB
            have := tk.top
            rw [List.length_eq_zero_iff.mp (by omega : k.length = 0)] at this
            cases this
          | succ n ih =>
            intro cs x k hk hC tk hil hA hB
            obtain ⟨l1, l2, -, rfl, tl, tr⟩ := tk.at
            have hxi : x ∈ il := (plug_of hil T.2.2.2.1).1 x (by simp)
            have hpw : (l1 ++ x :: l2).Pairwise (fun a b => cmpW (W a) (W b) < 0) := by
              have := t7
              rw [hil, plug_ab, List.pairwise_append, List.pairwise_append] at this
              exact this.1.2.1
            rw [List.pairwise_append, List.pairwise_cons] at hpw
            refine g_aload O dJ1_put_2_123 rfl (by first | rfl | exact rf_ref _) ?_
            refine g_astore O dJ1_put_2_125 (by first | rfl | exact rf_ref _) (by first | rfl | exact rf_lst ⟨rfl, rfl⟩) ?_
            refine g_aload O dJ1_put_2_127 rfl (by first | rfl | exact rf_ref _) ?_
            refine g_aload O dJ1_put_2_129 rfl (by first | rfl | exact rf_ref _) ?_
            refine g_get O 4 0 rfl (T.2.1 x hxi) dJ1_put_2_131 q1086 rfl (by decide) rfl rfl ?_
            refine g_callF O (n := 1) (x := ⟨"java/lang/Comparable", "compareTo", "(Ljava/lang/Object;)I"⟩) (c_J9_compareTo_2 l E h hw (T.2.2.2.2.2.1 x hxi) (Or.inl hl)) rfl rfl hcell dJ1_put_2_134 q1019 q1025 q1023 q51 q1027 q1021 q1026 q1024 q1022 (O.k.2.2.2.2.2.2.2.1 _ (by decide)) (by decide +kernel) rfl rfl (by first | decide | omega) (by decide) (by first | exact Nat.le_of_ble_eq_true rfl | omega) (by first | exact Nat.le_of_ble_eq_true rfl | omega) (by first | exact Nat.le_of_ble_eq_true rfl | omega) (fun v h1 hp => ?_)
            obtain ⟨⟨r, rfl, hr⟩, rfl⟩ := hp
            have hr2 := toInt_ge hr
            have hr3 : r < 0 ↔ cmpW w (W x) < 0 := by rw [← hr, Int32.lt_iff_toInt_lt]; rfl
            have hz : cmpW w (W x) ≠ 0 := fun z => by
              have := hf1 x hxi
              rw [← cmpW_zero _ _ z, hfw] at this
              cases this
            refine g_istore O dJ1_put_2_139 rfl ?_
            refine g_iload O dJ1_put_2_141 rfl ?_
            refine g_if_ge O 156 dJ1_put_2_143 (by decide) (fun hc3 => ?_) (fun hc3 => ?_)
            · have h1 := hr2.1.mp hc3
              have hlt : cmpW (W x) w < 0 := by rw [cmpW_anti]; omega
              have hA2 : ∀ b ∈ cA ((false, x, l1) :: cs), cmpW (W b) w < 0 := fun b hb => by
                simp only [cA, Bool.false_eq_true, if_false, List.mem_append, List.mem_cons, List.not_mem_nil, or_false] at hb
                rcases hb with hb | hb | hb
                · exact hA b hb
                · exact cmpW_tr _ _ _ (hpw.2.2 b hb x (by simp)) hlt
                · rw [hb]; exact hlt
              refine g_iload O dJ1_put_2_156 rfl ?_
              refine g_if_le O 171 dJ1_put_2_158 (by decide) (fun hc4 => ?_) (fun hc4 => ?_)
              · exact absurd (hr2.2.mp hc4) (by omega)
              · refine g_aload O dJ1_put_2_161 rfl (by first | rfl | exact rf_ref _) ?_
                refine g_get O 4 3 rfl (T.2.1 x hxi) dJ1_put_2_163 q1090 rfl (by decide) rfl rfl ?_
                have hC2 := Cx.right hC tl
                cases hrt : rt x with
                | none =>
                  rw [hrt] at tr hC2
                  have hl2 : l2 = [] := tr.non
                  subst hl2
                  refine g_astore O dJ1_put_2_166 (by first | rfl | exact rf_ref _) (by first | rfl | exact rf_lst ⟨rfl, rfl⟩) ?_
                  refine g_goto O 196 dJ1_put_2_168 (by decide) ?_
                  refine g_aload O dJ1_put_2_196 rfl (by first | rfl | exact rf_ref _) ?_
                  refine g_ifnonnull O 123 dJ1_put_2_198 (by decide) rfl (fun hc5 => ?_) (fun hc5_a hc5 => ?_)
                  · refine Wg.fg 4 ?_
                    exact insert false x l1 cs r hC2 (by rw [hil]; rfl) hA2 hB ⟨fun z => absurd (hr3.mp z) (by omega), fun z => by cases z⟩
                  · cases hc5
                | some y =>
                  rw [hrt] at tr hC2
                  obtain ⟨-, -, hpy, -⟩ := tr.at
                  refine g_astore O dJ1_put_2_166 (by first | rfl | exact rf_ref _) (by first | rfl | exact rf_lst ⟨rfl, rfl⟩) ?_
                  refine g_goto O 196 dJ1_put_2_168 (by decide) ?_
                  refine g_aload O dJ1_put_2_196 rfl (by first | rfl | exact rf_ref _) ?_
                  refine g_ifnonnull O 123 dJ1_put_2_198 (by decide) rfl (fun hc5 => ?_) (fun hc5_a hc5 => ?_)
                  · cases hc5
                  · refine Wg.fg 5 (Wg.fg 6 ?_)
                    exact ih ((false, x, l1) :: cs) y l2 (by simp at hk; omega) (by rw [← hpy]; exact hC2) (by rw [← hpy]; exact tr) (by rw [hil]; rfl) hA2 hB
            · have hlt : cmpW w (W x) < 0 := by
                rcases Int.lt_or_le (cmpW w (W x)) 0 with z | z
                · exact z
                · exact absurd (hr2.1.mpr z) hc3
              have hB2 : ∀ b ∈ cB ((true, x, l2) :: cs), cmpW w (W b) < 0 := fun b hb => by
                simp only [cB, if_true, List.cons_append, List.mem_append, List.mem_cons] at hb
                rcases hb with hb | hb | hb
                · rw [hb]; exact hlt
                · exact cmpW_tr _ _ _ hlt (hpw.2.1.1 b hb)
                · exact hB b hb
              refine g_aload O dJ1_put_2_146 rfl (by first | rfl | exact rf_ref _) ?_
              refine g_get O 4 2 rfl (T.2.1 x hxi) dJ1_put_2_148 q1089 rfl (by decide) rfl rfl ?_
              have hC2 := Cx.left hC tr
              cases hlt2 : lf x with
              | none =>
                rw [hlt2] at tl hC2
                have hl1 : l1 = [] := tl.non
                subst hl1
                refine g_astore O dJ1_put_2_151 (by first | rfl | exact rf_ref _) (by first | rfl | exact rf_lst ⟨rfl, rfl⟩) ?_
                refine g_goto O 196 dJ1_put_2_153 (by decide) ?_
                refine g_aload O dJ1_put_2_196 rfl (by first | rfl | exact rf_ref _) ?_
                refine g_ifnonnull O 123 dJ1_put_2_198 (by decide) rfl (fun hc5 => ?_) (fun hc5_a hc5 => ?_)
                · refine Wg.fg 4 ?_
                  exact insert true x l2 cs r hC2 (by rw [hil]; rfl) hA hB2 ⟨fun z => rfl, fun z => hr3.mpr hlt⟩
                · cases hc5
              | some y =>
                rw [hlt2] at tl hC2
                obtain ⟨-, -, hpy, -⟩ := tl.at
                refine g_astore O dJ1_put_2_151 (by first | rfl | exact rf_ref _) (by first | rfl | exact rf_lst ⟨rfl, rfl⟩) ?_
                refine g_goto O 196 dJ1_put_2_153 (by decide) ?_
                refine g_aload O dJ1_put_2_196 rfl (by first | rfl | exact rf_ref _) ?_
                refine g_ifnonnull O 123 dJ1_put_2_198 (by decide) rfl (fun hc5 => ?_) (fun hc5_a hc5 => ?_)
                · cases hc5
                · refine Wg.fg 5 (Wg.fg 6 ?_)
                  exact ih ((true, x, l2) :: cs) y l1 (by simp at hk; omega) (by rw [← hpy]; exact hC2) (by rw [← hpy]; exact tl) (by rw [hil]; rfl) hA hB2
        obtain ⟨-, -, hpx, -⟩ := t3.at
        exact loop _ [] x0 il (Nat.le_refl _) ⟨hroot, hpx.symm⟩ (by rw [← hpx]; exact t3) rfl (fun b hb => absurd hb List.not_mem_nil) (fun b hb => absurd hb List.not_mem_nil)
      · cases hc2
theorem c_J1_put (l : Launch) (E : GE) (h : HV) {lab t a v : Nat} {f : List Nat → Option Nat} {w : List Nat} (hlab : lab ≠ 0) (T : TM E h lab t f) (hw : Str E h a w) (hl : w.length ≤ 7) (hfw : f w = none) : Cg l E yJ1_put cJ1_put 3 (some (.object "java/lang/Object")) 8 1 6 [.ref t, .ref a, .ref v] h (fun v' h' => v' = some .null ∧ TM E h' lab t (fun w' => if w' = w then some v else f w') ∧ Fr [lab] h h') := by
  have T' := T
  obtain ⟨il, K, V, W, lf, rt, pa, co, root, sz, mo, TT, -⟩ := T'
  refine Cg.of (by first | exact plainFor_of_name (by decide) | decide +kernel) [some (.ref t), some (.ref a), some (.ref v)] (Nat.le_of_ble_eq_true rfl) rfl ?_
  intro p e s m args below meth c O
  refine g_aload_n O dJ1_put_0 rfl (by first | rfl | exact rf_ref _) ?_
  refine g_aload_n O dJ1_put_1 rfl (by first | rfl | exact rf_ref _) ?_
  refine g_aload_n O dJ1_put_2 rfl (by first | rfl | exact rf_ref _) ?_
  refine g_iconst O dJ1_put_3 (nI 1) rfl ?_
  refine g_callV O (n := 3) (c_J1_put_2 l E h hlab T hw hl hfw) rfl rfl TT.1 dJ1_put_4 q1067 q1069 qs7 q41 q1070 rfl (by decide +kernel) rfl rfl (by first | decide | omega) (by decide) (by first | exact Nat.le_of_ble_eq_true rfl | omega) (Nat.le_refl _) (Nat.le_refl _) (fun v1 h1 hp => ?_)
  obtain ⟨rfl, hT, hF⟩ := hp
  exact g_aret O dJ1_put_7 (by first | exact Or.inl ⟨_, rfl⟩ | exact Or.inr ⟨_, rfl⟩) (by first | exact Or.inl rfl | exact Or.inr ⟨_, rfl⟩) (Nat.le_refl _) (Nat.le_refl _) ⟨rfl, hT, hF⟩
theorem c_J0_init (l : Launch) (E : GE) (h : HV) {a : Nat} : Cg l E yJ0_init cJ0_init 1 none 1 0 0 [.ref a] h (fun v h' => v = none ∧ h = h') := by
  refine Cg.of (by first | exact plainFor_of_name (by decide) | decide +kernel) [some (.ref a)] (Nat.le_of_ble_eq_true rfl) rfl ?_
  intro p e s m args below meth c O
  refine g_aload_n O dJ0_init_0 rfl (by first | rfl | exact rf_ref _) ?_
  refine g_objInit O rfl q109 q87 q88 dJ0_init_1 (by decide) (by first | exact Nat.le_of_ble_eq_true rfl | omega) ?_
  exact g_vret O dJ0_init_4 (by first | exact Nat.le_of_ble_eq_true rfl | omega) (by first | exact Nat.le_of_ble_eq_true rfl | omega) ⟨rfl, rfl⟩
theorem c_J1_init (l : Launch) (E : GE) (h : HV) {a lab : Nat} (hlab : lab ≠ 0) (ha : h a = some (lab, .inr (3, [.null, .null, .null, .null, .int 0, .int 0, .null, .null, .null]))) : Cg l E yJ1_init cJ1_init 1 none 2 0 0 [.ref a] h (fun v h' => v = none ∧ hup h a (lab, cMap none (nI 0) (nI 0)) = h') := by
  refine Cg.of (by first | exact plainFor_of_name (by decide) | decide +kernel) [some (.ref a)] (Nat.le_of_ble_eq_true rfl) rfl ?_
  intro p e s m args below meth c O
  refine g_aload_n O dJ1_init_0 rfl (by first | rfl | exact rf_ref _) ?_
  refine g_callI O (n := 0) (c_J0_init l E h) rfl dJ1_init_1 q106 q107 q40 q108 rfl (by decide +kernel) rfl rfl (by first | decide | omega) (by decide) (by first | exact Nat.le_of_ble_eq_true rfl | omega) (by first | exact Nat.le_of_ble_eq_true rfl | omega) (by first | exact Nat.le_of_ble_eq_true rfl | omega) (fun v h1 hp => ?_)
  obtain ⟨rfl, rfl⟩ := hp
  refine g_aload_n O dJ1_init_4 rfl (by first | rfl | exact rf_ref _) ?_
  refine g_iconst O dJ1_init_5 (nI 0) rfl ?_
  refine g_put O 3 4 rfl ha hlab dJ1_init_6 q112 rfl (by decide) rfl rfl rfl (by first | exact Nat.le_of_ble_eq_true rfl | omega) ?_
  refine g_aload_n O dJ1_init_9 rfl (by first | rfl | exact rf_ref _) ?_
  refine g_iconst O dJ1_init_10 (nI 0) rfl ?_
  refine g_put O 3 5 rfl hup_self hlab dJ1_init_11 q113 rfl (by decide) rfl rfl rfl (by first | exact Nat.le_of_ble_eq_true rfl | omega) ?_
  refine g_aload_n O dJ1_init_14 rfl (by first | rfl | exact rf_ref _) ?_
  refine g_null O dJ1_init_15 ?_
  refine g_putF O 3 2 rfl hup_self hlab dJ1_init_16 q110 rfl (by decide) rfl rfl rfl rfl (by first | exact Nat.le_of_ble_eq_true rfl | omega) ?_
  exact g_vret O dJ1_init_19 (by first | exact Nat.le_of_ble_eq_true rfl | omega) (by first | exact Nat.le_of_ble_eq_true rfl | omega) ⟨rfl, by rw [hup_hup, hup_hup]; rfl⟩
theorem TM.new {E : GE} {h : HV} {lab t : Nat} {sz mo : Int32} (ht : h t = some (lab, cMap none sz mo)) : TM E h lab t (fun _ => none) :=
  ⟨[], fun _ => 0, fun _ => 0, fun _ => [], fun _ => none, fun _ => none, fun _ => none, fun _ => true, none, sz, mo, ⟨ht, fun a ha => absurd ha List.not_mem_nil, Tr.nil, List.nodup_nil, fun r hr => (by cases hr), fun a ha => absurd ha List.not_mem_nil, List.Pairwise.nil⟩, fun a ha => absurd ha List.not_mem_nil, fun w r hr => (by cases hr)⟩
