set_option maxRecDepth 100000
/-! StringBuilder, of 16 places at most -/
abbrev cSB (arr k : Nat) : va_E := .inr (14, [.ref arr, .int 0, .int 0, .int (nI k)])
/-- a StringBuilder with the signs t -/
def SB (E : GE) (h : HV) (lab a : Nat) (t : List Nat) : Prop :=
  ∃ (arr : Nat) (f : Nat → Int32), h a = some (lab, cSB arr t.length) ∧ h arr = some (lab, cBytes E 16 f) ∧ t.length ≤ 16 ∧ ∀ (j c : Nat), t[j]? = some c → c < 128 ∧ f j = nI c
theorem SB.fr {E : GE} {h h' : HV} {lab a : Nat} {t S : List Nat} (f : Fr S h h') (h0 : lab ∉ S) (hA : SB E h lab a t) : SB E h' lab a t := by
  obtain ⟨arr, g, h1, h2, h3⟩ := hA
  exact ⟨arr, g, f _ _ h1 h0, f _ _ h2 h0, h3⟩
theorem shl0 (x : Int32) : x <<< ((0 : Int32) &&& 31) = x := sb_shl0 x
theorem shr0 (x : Int32) : x >>> ((0 : Int32) &&& 31) = x := sb_shr0 x
theorem c_J11_init (l : Launch) (E : GE) (h : HV) {a lab : Nat} {x : Value} (ha : h a = some (lab, .inr (14, [x, .int 0, .int 0, .int 0]))) (hm : lab ≠ 0) : Cg l E yJ11_init cJ11_init 2 none 1 1 16 [.ref a, .int (nI 16)] h (fun v h' => v = none ∧ SB E h' lab a [] ∧ Ex [a] h h') := by
  refine Cg.of (by first | exact plainFor_of_name (by decide) | decide +kernel) [some (.ref a), some (.int (nI 16))] (Nat.le_of_ble_eq_true rfl) rfl ?_
  intro p e s m args below meth c O
  refine g_aload_n O dJ11_init_0 rfl (by first | rfl | exact rf_ref _) ?_
  refine g_objInit O rfl q420 q87 q88 dJ11_init_1 (by decide) (by first | exact Nat.le_of_ble_eq_true rfl | omega) ?_
  refine g_compact O q421 dJ11_init_4 ?_
  refine g_if_eq O 25 dJ11_init_7 (by decide) (fun hc => ?_) (fun hc => ?_)
  · exact absurd hc (by decide)
  · refine g_aload_n O dJ11_init_10 rfl (by first | rfl | exact rf_ref _) ?_
    refine g_iload_n O dJ11_init_11 rfl ?_
    refine g_newa O lab 3 16 (16, .inl (fun _ => 0)) dJ11_init_12 rfl rfl rfl (by decide) q208 (by first | exact Nat.le_of_ble_eq_true rfl | omega) (by first | exact Nat.le_of_ble_eq_true rfl | omega) (fun b hb => ?_)
    have hab : a ≠ b := hv_neN ha hb
    refine g_put O 14 0 rfl ((hup_ne hab).trans ha) hm dJ11_init_14 q429 rfl (by decide) rfl rfl rfl (by first | exact Nat.le_of_ble_eq_true rfl | omega) ?_
    refine g_aload_n O dJ11_init_17 rfl (by first | rfl | exact rf_ref _) ?_
    refine g_iconst O dJ11_init_18 (nI 0) rfl ?_
    refine g_put O 14 1 rfl hup_self hm dJ11_init_19 q430 rfl (by decide) rfl rfl rfl (by first | exact Nat.le_of_ble_eq_true rfl | omega) ?_
    refine g_goto O 38 dJ11_init_22 (by decide) ?_
    refine g_vret O dJ11_init_38 (Nat.le_of_ble_eq_true rfl) (Nat.le_of_ble_eq_true rfl) ⟨rfl, ⟨b, fun _ => 0, hup_self, (hup_ne hab.symm).trans ((hup_ne hab.symm).trans hup_self), by decide, fun j c hj => by simp at hj⟩, ?_⟩
    exact ((Ex.rf.new hb).up (by simp)).up (by simp)
theorem c_J12_init (l : Launch) (E : GE) (h : HV) {a lab : Nat} {x : Value} (ha : h a = some (lab, .inr (14, [x, .int 0, .int 0, .int 0]))) (hm : lab ≠ 0) : Cg l E yJ12_init cJ12_init 1 none 2 1 16 [.ref a] h (fun v h' => v = none ∧ SB E h' lab a [] ∧ Ex [a] h h') := by
  refine Cg.of (by first | exact plainFor_of_name (by decide) | decide +kernel) [some (.ref a)] (Nat.le_of_ble_eq_true rfl) rfl ?_
  intro p e s m args below meth c O
  refine g_aload_n O dJ12_init_0 rfl (by first | rfl | exact rf_ref _) ?_
  refine g_bipush O dJ12_init_1 (nI 16) rfl ?_
  refine g_callI O (n := 1) (c_J11_init l E h ha hm) rfl dJ12_init_3 q417 q418 q53 q419 rfl (by decide +kernel) rfl rfl (by first | decide | omega) (by decide) (by first | exact Nat.le_of_ble_eq_true rfl | omega) (by first | exact Nat.le_of_ble_eq_true rfl | omega) (by first | exact Nat.le_of_ble_eq_true rfl | omega) (fun v h1 hp => ?_)
  obtain ⟨rfl, e1, e2⟩ := hp
  exact g_vret O dJ12_init_6 (by first | exact Nat.le_of_ble_eq_true rfl | omega) (by first | exact Nat.le_of_ble_eq_true rfl | omega) ⟨rfl, e1, e2⟩
theorem c_J11_ensure (l : Launch) (E : GE) (h : HV) {lab a m : Nat} {t : List Nat} (hA : SB E h lab a t) (hm : m ≤ 16) : Cg l E yJ11_ensureCapacityInternal cJ11_ensureCapacityInternal 3 none 0 0 0 [.ref a, .int (nI m)] h (fun v h' => v = none ∧ h = h') := by
  obtain ⟨arr, f, h1, h2, h3, h4⟩ := hA
  refine Cg.of (by first | exact plainFor_of_name (by decide) | decide +kernel) [some (.ref a), some (.int (nI m)), none] (Nat.le_of_ble_eq_true rfl) rfl ?_
  intro p e s m args below meth c O
  refine g_aload_n O dJ11_ensureCapacityInternal_0 rfl (by first | rfl | exact rf_ref _) ?_
  refine g_get O 14 0 rfl h1 dJ11_ensureCapacityInternal_1 q429 rfl (by decide) rfl rfl ?_
  refine g_alen O 3 rfl h2 dJ11_ensureCapacityInternal_4 ?_
  refine g_aload_n O dJ11_ensureCapacityInternal_5 rfl (by first | rfl | exact rf_ref _) ?_
  refine g_get O 14 1 rfl h1 dJ11_ensureCapacityInternal_6 q430 rfl (by decide) rfl rfl ?_
  refine g_ishr O dJ11_ensureCapacityInternal_9 ?_
  rw [shr0]
  refine g_istore_n O rfl dJ11_ensureCapacityInternal_10 rfl ?_
  refine g_iload_n O dJ11_ensureCapacityInternal_11 rfl ?_
  refine g_iload_n O dJ11_ensureCapacityInternal_12 rfl ?_
  refine g_isub O dJ11_ensureCapacityInternal_13 ?_
  refine g_if_le O 38 dJ11_ensureCapacityInternal_14 (by decide) (fun hc => ?_) (fun hc => ?_)
  · exact g_vret O dJ11_ensureCapacityInternal_38 (by first | exact Nat.le_of_ble_eq_true rfl | omega) (by first | exact Nat.le_of_ble_eq_true rfl | omega) ⟨rfl, rfl⟩
  · refine absurd ?_ hc
    rw [Int32.le_iff_toInt_le, pk_sub_toInt (by omega) (show (16 : Nat) < 2 ^ 30 by decide)]
    have : (0 : Int32).toInt = 0 := rfl
    omega
theorem c_J11_isLatin1R (l : Launch) (E : GE) (h : HV) {lab a arr k : Nat} (h1 : h a = some (lab, cSB arr k)) : Cg l E yJ11_isLatin1 cJ11_isLatin1 1 (some .boolean) 0 0 0 [.ref a] h (fun v h' => v = some (.int (nI 1)) ∧ h = h') := by
  refine Cg.of (by first | exact plainFor_of_name (by decide) | decide +kernel) [some (.ref a)] (Nat.le_of_ble_eq_true rfl) rfl ?_
  intro p e s m args below meth c O
  refine g_compact O q421 dJ11_isLatin1_0 ?_
  refine g_if_eq O 17 dJ11_isLatin1_3 (by decide) (fun hc => ?_) (fun hc => ?_)
  · exact absurd hc (by decide)
  · refine g_aload_n O dJ11_isLatin1_6 rfl (by first | rfl | exact rf_ref _) ?_
    refine g_get O 14 1 rfl h1 dJ11_isLatin1_7 q430 rfl (by decide) rfl rfl ?_
    refine g_if_ne O 17 dJ11_isLatin1_10 (by decide) (fun hc2 => ?_) (fun hc2 => ?_)
    · exact absurd rfl hc2
    · refine g_iconst O dJ11_isLatin1_13 (nI 1) rfl ?_
      refine g_goto O 18 dJ11_isLatin1_14 (by decide) ?_
      exact g_zret O dJ11_isLatin1_18 rfl (by first | exact Nat.le_of_ble_eq_true rfl | omega) (by first | exact Nat.le_of_ble_eq_true rfl | omega) ⟨rfl, rfl⟩
theorem c_J11_isLatin1 (l : Launch) (E : GE) (h : HV) {lab a : Nat} {t : List Nat} (hA : SB E h lab a t) : Cg l E yJ11_isLatin1 cJ11_isLatin1 1 (some .boolean) 0 0 0 [.ref a] h (fun v h' => v = some (.int (nI 1)) ∧ h = h') := by
  obtain ⟨arr, f, h1, h2, h3, h4⟩ := hA
  exact c_J11_isLatin1R l E h h1
theorem c_J18_canEncode (l : Launch) (E : GE) (h : HV) {k : Nat} (hk : k < 128) : Cg l E yJ18_canEncode cJ18_canEncode 1 (some .boolean) 0 0 0 [.int (nI k)] h (fun v h' => v = some (.int (nI 1)) ∧ h = h') := by
  refine Cg.of (by first | exact plainFor_of_name (by decide) | decide +kernel) [some (.int (nI k))] (Nat.le_of_ble_eq_true rfl) rfl ?_
  intro p e s m args below meth c O
  refine g_iload_n O dJ18_canEncode_0 rfl ?_
  refine g_sipush O dJ18_canEncode_1 (nI 255) rfl ?_
  refine g_icmp_gt O 11 dJ18_canEncode_4 (by decide) (fun hc => ?_) (fun hc => ?_)
  · exact absurd ((nI_ltI (by decide) (by omega)).mp hc) (by omega)
  · refine g_iconst O dJ18_canEncode_7 (nI 1) rfl ?_
    refine g_goto O 12 dJ18_canEncode_8 (by decide) ?_
    exact g_zret O dJ18_canEncode_12 rfl (by first | exact Nat.le_of_ble_eq_true rfl | omega) (by first | exact Nat.le_of_ble_eq_true rfl | omega) ⟨rfl, rfl⟩
theorem c_J11_append_2 (l : Launch) (E : GE) (h : HV) {lab a k : Nat} {t : List Nat} (hA : SB E h lab a t) (hm : lab ≠ 0) (ht : t.length < 16) (hk : k < 128) : Cg l E yJ11_append_2 cJ11_append_2 2 (some (.object "java/lang/AbstractStringBuilder")) 1 0 0 [.ref a, .int (nI k)] h (fun v h' => v = some (.ref a) ∧ SB E h' lab a (t ++ [k]) ∧ Fr [lab] h h') := by
  have hA' := hA
  obtain ⟨arr, f, h1, h2, h3, h4⟩ := hA
  have hne : a ≠ arr := hv_ne h1 h2 (by simp)
  refine Cg.of (by first | exact plainFor_of_name (by decide) | decide +kernel) [some (.ref a), some (.int (nI k))] (Nat.le_of_ble_eq_true rfl) rfl ?_
  intro p e s m args below meth c O
  refine g_aload_n O dJ11_append_2_0 rfl (by first | rfl | exact rf_ref _) ?_
  refine g_aload_n O dJ11_append_2_1 rfl (by first | rfl | exact rf_ref _) ?_
  refine g_get O 14 3 rfl h1 dJ11_append_2_2 q432 rfl (by decide) rfl rfl ?_
  refine g_iconst O dJ11_append_2_5 (nI 1) rfl ?_
  refine g_iadd O dJ11_append_2_6 ?_
  rw [nI_add]
  refine g_callX O (n := 1) (c_J11_ensure l E h hA' (by omega)) rfl (ci := 14) rfl h1 dJ11_append_2_7 q453 q455 (g_selP O (C := RJ12) (z := yJ11_isLatin1) rfl (by decide) q454 q455 q489) q53 q456 (by decide +kernel) rfl rfl (by first | decide | omega) (by decide) (by first | exact Nat.le_of_ble_eq_true rfl | omega) (by first | exact Nat.le_of_ble_eq_true rfl | omega) (by first | exact Nat.le_of_ble_eq_true rfl | omega) (fun v h1 hp => ?_)
  obtain ⟨rfl, rfl⟩ := hp
  refine g_aload_n O dJ11_append_2_10 rfl (by first | rfl | exact rf_ref _) ?_
  refine g_callX O (n := 0) (c_J11_isLatin1 l E h hA') rfl (ci := 14) rfl h1 dJ11_append_2_11 q486 q487 (O.ts _ q489) q53 q490 (by decide +kernel) rfl rfl (by first | decide | omega) (by decide) (by first | exact Nat.le_of_ble_eq_true rfl | omega) (by first | exact Nat.le_of_ble_eq_true rfl | omega) (by first | exact Nat.le_of_ble_eq_true rfl | omega) (fun v h1 hp => ?_)
  obtain ⟨rfl, rfl⟩ := hp
  refine g_if_eq O 45 dJ11_append_2_14 (by decide) (fun hc => ?_) (fun hc => ?_)
  · exact absurd hc (by decide)
  · refine g_iload_n O dJ11_append_2_17 rfl ?_
    refine g_callS O (n := 1) (c_J18_canEncode l E h hk) rfl dJ11_append_2_18 q559 q560 q61 q561 (by decide +kernel) rfl rfl (by first | decide | omega) (by decide) (by first | exact Nat.le_of_ble_eq_true rfl | omega) (by first | exact Nat.le_of_ble_eq_true rfl | omega) (by first | exact Nat.le_of_ble_eq_true rfl | omega) (fun v h1 hp => ?_)
    obtain ⟨rfl, rfl⟩ := hp
    refine g_if_eq O 45 dJ11_append_2_21 (by decide) (fun hc2 => ?_) (fun hc2 => ?_)
    · exact absurd hc2 (by decide)
    · refine g_aload_n O dJ11_append_2_24 rfl (by first | rfl | exact rf_ref _) ?_
      refine g_get O 14 0 rfl h1 dJ11_append_2_25 q429 rfl (by decide) rfl rfl ?_
      refine g_aload_n O dJ11_append_2_28 rfl (by first | rfl | exact rf_ref _) ?_
      refine g_dup O dJ11_append_2_29 rfl ?_
      refine g_get O 14 3 rfl h1 dJ11_append_2_30 q432 rfl (by decide) rfl rfl ?_
      refine g_dup_x1 O dJ11_append_2_33 rfl rfl ?_
      refine g_iconst O dJ11_append_2_34 (nI 1) rfl ?_
      refine g_iadd O dJ11_append_2_35 ?_
      rw [nI_add]
      refine g_put O 14 3 rfl h1 hm dJ11_append_2_36 q432 rfl (by decide) rfl rfl rfl (by first | exact Nat.le_of_ble_eq_true rfl | omega) ?_
      refine g_iload_n O dJ11_append_2_39 rfl ?_
      refine g_i2b O dJ11_append_2_40 ?_
      rw [(byte_nI hk).2.2.1]
      refine g_bast O t.length rfl ht (by decide) ((hup_ne hne.symm).trans h2) hm dJ11_append_2_41 ?_
      refine g_goto O 75 dJ11_append_2_42 (by decide) ?_
      refine g_aload_n O dJ11_append_2_75 rfl (by first | rfl | exact rf_ref _) ?_
      refine g_aret O dJ11_append_2_76 (Or.inl ⟨_, rfl⟩) (Or.inr ⟨_, rfl⟩) (Nat.le_refl _) (Nat.le_refl _) ⟨rfl, ⟨arr, upd f t.length (vp_nar .byte (nI k)), ?_, hup_self, ?_, ?_⟩, ?_⟩
      · rw [List.length_append]
        exact (hup_ne hne).trans hup_self
      · rw [List.length_append]; simp; omega
      · intro j c2 hj
        rcases Nat.lt_trichotomy j t.length with z | z | z
        · rw [List.getElem?_append_left z] at hj
          rw [pk_un (by omega)]
          exact h4 j c2 hj
        · subst z
          rw [List.getElem?_append_right (Nat.le_refl _), Nat.sub_self] at hj
          cases hj
          rw [pk_us, (byte_nI hk).2.2.2.1]
          exact ⟨hk, rfl⟩
        · rw [List.getElem?_eq_none (by rw [List.length_append]; simp; omega)] at hj
          cases hj
      · exact (Fr.rf.up h1 (List.mem_singleton.mpr rfl)).up ((hup_ne hne.symm).trans h2) (List.mem_singleton.mpr rfl)
theorem c_J12_append_2 (l : Launch) (E : GE) (h : HV) {lab a k : Nat} {t : List Nat} (hA : SB E h lab a t) (hm : lab ≠ 0) (ht : t.length < 16) (hk : k < 128) : Cg l E yJ12_append_2 cJ12_append_2 2 (some (.object "java/lang/StringBuilder")) 2 0 0 [.ref a, .int (nI k)] h (fun v h' => v = some (.ref a) ∧ SB E h' lab a (t ++ [k]) ∧ Fr [lab] h h') := by
  have hA' := hA
  obtain ⟨arr, f, h1, h2, h3, h4⟩ := hA
  refine Cg.of (by first | exact plainFor_of_name (by decide) | decide +kernel) [some (.ref a), some (.int (nI k))] (Nat.le_of_ble_eq_true rfl) rfl ?_
  intro p e s m args below meth c O
  refine g_aload_n O dJ12_append_2_0 rfl (by first | rfl | exact rf_ref _) ?_
  refine g_iload_n O dJ12_append_2_1 rfl ?_
  refine g_callSU O (n := 1) (c_J11_append_2 l E h hA' hm ht hk) rfl rfl h1 dJ12_append_2_2 (va_cwSU 1 O.ts (lw_SU q556 q1777 q441 q557 q53 q558) rfl rfl rfl (by decide +kernel) (g_rm (by decide) (by decide))) rfl rfl (by first | exact Nat.le_of_ble_eq_true rfl | omega) (by first | exact Nat.le_of_ble_eq_true rfl | omega) (by first | exact Nat.le_of_ble_eq_true rfl | omega) (fun v h1 hp => ?_)
  obtain ⟨rfl, e1, e2⟩ := hp
  refine g_pop O dJ12_append_2_5 rfl ?_
  refine g_aload_n O dJ12_append_2_6 rfl (by first | rfl | exact rf_ref _) ?_
  exact g_aret O dJ12_append_2_7 (by first | exact Or.inl ⟨_, rfl⟩ | exact Or.inr ⟨_, rfl⟩) (by first | exact Or.inl rfl | exact Or.inr ⟨_, rfl⟩) (by first | exact Nat.le_of_ble_eq_true rfl | omega) (by first | exact Nat.le_of_ble_eq_true rfl | omega) ⟨rfl, e1, e2⟩
theorem c_J11_inflateIf (l : Launch) (E : GE) (h : HV) {lab a b : Nat} {t u : List Nat} (hA : SB E h lab a t) (hB : Str E h b u) : Cg l E yJ11_inflateIfNeededFor cJ11_inflateIfNeededFor 2 none 1 0 0 [.ref a, .ref b] h (fun v h' => v = none ∧ h = h') := by
  obtain ⟨arr, f, h1, h2, h3, h4⟩ := hA
  have hB' := hB
  obtain ⟨brr, g, uu, vv, k1, k2, k3, k4⟩ := hB
  refine Cg.of (by first | exact plainFor_of_name (by decide) | decide +kernel) [some (.ref a), some (.ref b)] (Nat.le_of_ble_eq_true rfl) rfl ?_
  intro p e s m args below meth c O
  refine g_compact O q421 dJ11_inflateIfNeededFor_0 ?_
  refine g_if_eq O 21 dJ11_inflateIfNeededFor_3 (by decide) (fun hc => ?_) (fun hc => ?_)
  · exact absurd hc (by decide)
  · refine g_aload_n O dJ11_inflateIfNeededFor_6 rfl (by first | rfl | exact rf_ref _) ?_
    refine g_get O 14 1 rfl h1 dJ11_inflateIfNeededFor_7 q430 rfl (by decide) rfl rfl ?_
    refine g_aload_n O dJ11_inflateIfNeededFor_10 rfl (by first | rfl | exact rf_ref _) ?_
    refine g_callV O (n := 0) (c_J9_coder l E h hB') rfl rfl k1 dJ11_inflateIfNeededFor_11 q526 q389 q390 q51 q391 rfl (by decide +kernel) rfl rfl (by first | decide | omega) (by decide) (by first | exact Nat.le_of_ble_eq_true rfl | omega) (by first | exact Nat.le_of_ble_eq_true rfl | omega) (by first | exact Nat.le_of_ble_eq_true rfl | omega) (fun v h1 hp => ?_)
    obtain ⟨rfl, rfl⟩ := hp
    refine g_icmp_eq O 21 dJ11_inflateIfNeededFor_14 (by decide) (fun hc2 => ?_) (fun hc2 => ?_)
    · exact g_vret O dJ11_inflateIfNeededFor_21 (by first | exact Nat.le_of_ble_eq_true rfl | omega) (by first | exact Nat.le_of_ble_eq_true rfl | omega) ⟨rfl, rfl⟩
    · exact absurd rfl hc2
theorem c_J9_getBytes (l : Launch) (E : GE) (h : HV) {lab b arr n k : Nat} {u : List Nat} {f : Nat → Int32} (hB : Str E h b u) (hr : h arr = some (lab, cBytes E n f)) (hm : lab ≠ 0) (hk : k + u.length ≤ n) (hn : n ≤ 1000) : Cg l E yJ9_getBytes cJ9_getBytes 4 none 1 0 0 [.ref b, .ref arr, .int (nI k), .int 0] h (fun v h' => v = none ∧ ∃ g : Nat → Int32, hup h arr (lab, cBytes E n g) = h' ∧ (∀ j, j < k → g j = f j) ∧ ∀ (j c : Nat), u[j]? = some c → g (k + j) = nI c) := by
  have hB' := hB
  obtain ⟨brr, g, uu, vv, k1, k2, k3, k4⟩ := hB
  refine Cg.of (by first | exact plainFor_of_name (by decide) | decide +kernel) [some (.ref b), some (.ref arr), some (.int (nI k)), some (.int 0)] (Nat.le_of_ble_eq_true rfl) rfl ?_
  intro p e s m args below meth c O
  refine g_aload_n O dJ9_getBytes_0 rfl (by first | rfl | exact rf_ref _) ?_
  refine g_callV O (n := 0) (c_J9_coder l E h hB') rfl rfl k1 dJ9_getBytes_1 q388 q389 q390 q51 q391 rfl (by decide +kernel) rfl rfl (by first | decide | omega) (by decide) (by first | exact Nat.le_of_ble_eq_true rfl | omega) (by first | exact Nat.le_of_ble_eq_true rfl | omega) (by first | exact Nat.le_of_ble_eq_true rfl | omega) (fun v h1 hp => ?_)
  refine g_iload_n O dJ9_getBytes_4 rfl ?_
  obtain ⟨rfl, rfl⟩ := hp
  refine g_icmp_ne O 28 dJ9_getBytes_5 (by decide) (fun hc => ?_) (fun hc => ?_)
  · exact absurd rfl hc
  · refine g_aload_n O dJ9_getBytes_8 rfl (by first | rfl | exact rf_ref _) ?_
    refine g_get O 15 0 rfl k1 dJ9_getBytes_9 q664 rfl (by decide) rfl rfl ?_
    refine g_iconst O dJ9_getBytes_12 (nI 0) rfl ?_
    refine g_aload_n O dJ9_getBytes_13 rfl (by first | rfl | exact rf_ref _) ?_
    refine g_iload_n O dJ9_getBytes_14 rfl ?_
    refine g_iload_n O dJ9_getBytes_15 rfl ?_
    refine g_ishl O dJ9_getBytes_16 ?_
    rw [shl0]
    refine g_aload_n O dJ9_getBytes_17 rfl (by first | rfl | exact rf_ref _) ?_
    refine g_get O 15 0 rfl k1 dJ9_getBytes_18 q664 rfl (by decide) rfl rfl ?_
    refine g_alen O 3 rfl k2 dJ9_getBytes_21 ?_
    refine g_acopyB O 0 k u.length rfl rfl rfl k2 hr hm (by omega) hk (by omega) (by omega) (fun i hi => ?_) q550 rfl (Nat.le_refl 1) (Nat.le_of_ble_eq_true rfl) dJ9_getBytes_22 ?_
    · have e1 : u[i]? = some u[i] := List.getElem?_eq_getElem hi
      obtain ⟨b1, b2⟩ := k4 i _ e1
      rw [Nat.zero_add, b2]
      exact (byte_nI b1).2.2.2.2
    · refine g_goto O 43 dJ9_getBytes_25 (by decide) ?_
      refine g_vret O dJ9_getBytes_43 (Nat.le_refl _) (Nat.le_refl _) ⟨rfl, _, rfl, fun j hj => ?_, fun j c2 hj => ?_⟩
      · unfold va_cpy
        rw [if_neg (by omega)]
      · have hlt : j < u.length := (List.getElem?_eq_some_iff.mp hj).1
        unfold va_cpy
        rw [if_pos (by omega), show 0 + (k + j - k) = j by omega]
        exact (k4 j c2 hj).2
theorem c_J11_putStringAt (l : Launch) (E : GE) (h : HV) {lab a b arr k : Nat} {u t : List Nat} {f : Nat → Int32} (hA : SB E h lab a t) (h1 : h a = some (lab, cSB arr t.length)) (hB : Str E h b u) (hr : h arr = some (lab, cBytes E 16 f)) (hm : lab ≠ 0) (hk : k + u.length ≤ 16) : Cg l E yJ11_putStringAt cJ11_putStringAt 3 none 2 0 0 [.ref a, .int (nI k), .ref b] h (fun v h' => v = none ∧ ∃ g : Nat → Int32, hup h arr (lab, cBytes E 16 g) = h' ∧ (∀ j, j < k → g j = f j) ∧ ∀ (j c : Nat), u[j]? = some c → g (k + j) = nI c) := by
  have hB' := hB
  obtain ⟨brr, g, uu, vv, k1, k2, k3, k4⟩ := hB
  refine Cg.of (by first | exact plainFor_of_name (by decide) | decide +kernel) [some (.ref a), some (.int (nI k)), some (.ref b)] (Nat.le_of_ble_eq_true rfl) rfl ?_
  intro p e s m args below meth c O
  refine g_aload_n O dJ11_putStringAt_0 rfl (by first | rfl | exact rf_ref _) ?_
  refine g_aload_n O dJ11_putStringAt_1 rfl (by first | rfl | exact rf_ref _) ?_
  refine g_callX O (n := 1) (c_J11_inflateIf l E h hA hB') rfl (ci := 14) rfl h1 dJ11_putStringAt_2 q522 q524 (g_selP O (C := RJ12) (z := yJ11_isLatin1) rfl (by decide) q523 q524 q489) q53 q525 (by decide +kernel) rfl rfl (by first | decide | omega) (by decide) (by first | exact Nat.le_of_ble_eq_true rfl | omega) (by first | exact Nat.le_of_ble_eq_true rfl | omega) (by first | exact Nat.le_of_ble_eq_true rfl | omega) (fun v h1 hp => ?_)
  obtain ⟨rfl, rfl⟩ := hp
  refine g_aload_n O dJ11_putStringAt_5 rfl (by first | rfl | exact rf_ref _) ?_
  refine g_aload_n O dJ11_putStringAt_6 rfl (by first | rfl | exact rf_ref _) ?_
  refine g_get O 14 0 rfl h1 dJ11_putStringAt_7 q429 rfl (by decide) rfl rfl ?_
  refine g_iload_n O dJ11_putStringAt_10 rfl ?_
  refine g_aload_n O dJ11_putStringAt_11 rfl (by first | rfl | exact rf_ref _) ?_
  refine g_get O 14 1 rfl h1 dJ11_putStringAt_12 q430 rfl (by decide) rfl rfl ?_
  refine g_callV O (n := 3) (c_J9_getBytes l E h hB' hr hm hk (by decide)) rfl rfl k1 dJ11_putStringAt_15 q546 q547 q548 q51 q549 rfl (by decide +kernel) rfl rfl (by first | decide | omega) (by decide) (by first | exact Nat.le_of_ble_eq_true rfl | omega) (by first | exact Nat.le_of_ble_eq_true rfl | omega) (by first | exact Nat.le_of_ble_eq_true rfl | omega) (fun v h1 hp => ?_)
  obtain ⟨rfl, g', e1, e2, e3⟩ := hp
  exact g_vret O dJ11_putStringAt_18 (by first | exact Nat.le_of_ble_eq_true rfl | omega) (by first | exact Nat.le_of_ble_eq_true rfl | omega) ⟨rfl, g', e1, e2, e3⟩
theorem c_J11_append (l : Launch) (E : GE) (h : HV) {lab a b : Nat} {t u : List Nat} (hA : SB E h lab a t) (hm : lab ≠ 0) (hB : Str E h b u) (ht : t.length + u.length ≤ 16) : Cg l E yJ11_append cJ11_append 3 (some (.object "java/lang/AbstractStringBuilder")) 3 0 0 [.ref a, .ref b] h (fun v h' => v = some (.ref a) ∧ SB E h' lab a (t ++ u) ∧ Fr [lab] h h') := by
  have hA' := hA
  have hB' := hB
  obtain ⟨arr, f, h1, h2, h3, h4⟩ := hA
  obtain ⟨brr, g, uu, vv, k1, k2, k3, k4⟩ := hB
  have hne : a ≠ arr := hv_ne h1 h2 (by simp)
  refine Cg.of (by first | exact plainFor_of_name (by decide) | decide +kernel) [some (.ref a), some (.ref b), none] (Nat.le_of_ble_eq_true rfl) rfl ?_
  intro p e s m args below meth c O
  refine g_aload_n O dJ11_append_0 rfl (by first | rfl | exact rf_ref _) ?_
  refine g_ifnonnull O 9 dJ11_append_1 (by decide) rfl (fun hc => ?_) (fun hc_a hc => ?_)
  · cases hc
  · refine g_aload_n O dJ11_append_9 rfl (by first | rfl | exact rf_ref _) ?_
    refine g_callV O (n := 0) (c_J9_length l E h hB') rfl rfl k1 dJ11_append_10 q517 q385 q386 q51 q387 rfl (by decide +kernel) rfl rfl (by first | decide | omega) (by decide) (by first | exact Nat.le_of_ble_eq_true rfl | omega) (by first | exact Nat.le_of_ble_eq_true rfl | omega) (by first | exact Nat.le_of_ble_eq_true rfl | omega) (fun v h1 hp => ?_)
    obtain ⟨rfl, rfl⟩ := hp
    refine g_istore_n O rfl dJ11_append_13 rfl ?_
    refine g_aload_n O dJ11_append_14 rfl (by first | rfl | exact rf_ref _) ?_
    refine g_aload_n O dJ11_append_15 rfl (by first | rfl | exact rf_ref _) ?_
    refine g_get O 14 3 rfl h1 dJ11_append_16 q432 rfl (by decide) rfl rfl ?_
    refine g_iload_n O dJ11_append_19 rfl ?_
    refine g_iadd O dJ11_append_20 ?_
    rw [nI_add]
    refine g_callX O (n := 1) (c_J11_ensure l E h hA' (by omega)) rfl (ci := 14) rfl h1 dJ11_append_21 q453 q455 (g_selP O (C := RJ12) (z := yJ11_isLatin1) rfl (by decide) q454 q455 q489) q53 q456 (by decide +kernel) rfl rfl (by first | decide | omega) (by decide) (by first | exact Nat.le_of_ble_eq_true rfl | omega) (by first | exact Nat.le_of_ble_eq_true rfl | omega) (by first | exact Nat.le_of_ble_eq_true rfl | omega) (fun v h1 hp => ?_)
    obtain ⟨rfl, rfl⟩ := hp
    refine g_aload_n O dJ11_append_24 rfl (by first | rfl | exact rf_ref _) ?_
    refine g_aload_n O dJ11_append_25 rfl (by first | rfl | exact rf_ref _) ?_
    refine g_get O 14 3 rfl h1 dJ11_append_26 q432 rfl (by decide) rfl rfl ?_
    refine g_aload_n O dJ11_append_29 rfl (by first | rfl | exact rf_ref _) ?_
    refine g_callX O (n := 2) (c_J11_putStringAt l E h hA' h1 hB' h2 hm (by omega)) rfl (ci := 14) rfl h1 dJ11_append_30 q518 q520 (g_selP O (C := RJ12) (z := yJ11_isLatin1) rfl (by decide) q519 q520 q489) q53 q521 (by decide +kernel) rfl rfl (by first | decide | omega) (by decide) (by first | exact Nat.le_of_ble_eq_true rfl | omega) (by first | exact Nat.le_of_ble_eq_true rfl | omega) (by first | exact Nat.le_of_ble_eq_true rfl | omega) (fun v h1 hp => ?_)
    obtain ⟨rfl, g', rfl, e2, e3⟩ := hp
    have h1' : hup h arr (lab, cBytes E 16 g') a = some (lab, cSB arr t.length) := (hup_ne hne).trans h1
    refine g_aload_n O dJ11_append_33 rfl (by first | rfl | exact rf_ref _) ?_
    refine g_dup O dJ11_append_34 rfl ?_
    refine g_get O 14 3 rfl h1' dJ11_append_35 q432 rfl (by decide) rfl rfl ?_
    refine g_iload_n O dJ11_append_38 rfl ?_
    refine g_iadd O dJ11_append_39 ?_
    rw [nI_add]
    refine g_put O 14 3 rfl h1' hm dJ11_append_40 q432 rfl (by decide) rfl rfl rfl (by first | exact Nat.le_of_ble_eq_true rfl | omega) ?_
    refine g_aload_n O dJ11_append_43 rfl (by first | rfl | exact rf_ref _) ?_
    refine g_aret O dJ11_append_44 (Or.inl ⟨_, rfl⟩) (Or.inr ⟨_, rfl⟩) (Nat.le_refl _) (Nat.le_refl _) ⟨rfl, ⟨arr, g', ?_, (hup_ne hne.symm).trans hup_self, ?_, ?_⟩, ?_⟩
    · rw [List.length_append]
      exact hup_self
    · rw [List.length_append]; exact ht
    · intro j c2 hj
      rcases Nat.lt_or_ge j t.length with z | z
      · rw [List.getElem?_append_left z] at hj
        rw [e2 j z]
        exact h4 j c2 hj
      · rw [List.getElem?_append_right z] at hj
        have e4 := e3 _ c2 hj
        rw [show t.length + (j - t.length) = j by omega] at e4
        exact ⟨(k4 _ c2 hj).1, e4⟩
    · exact (Fr.rf.up h2 (List.mem_singleton.mpr rfl)).up h1' (List.mem_singleton.mpr rfl)
theorem c_J12_append (l : Launch) (E : GE) (h : HV) {lab a b : Nat} {t u : List Nat} (hA : SB E h lab a t) (hm : lab ≠ 0) (hB : Str E h b u) (ht : t.length + u.length ≤ 16) : Cg l E yJ12_append cJ12_append 2 (some (.object "java/lang/StringBuilder")) 4 0 0 [.ref a, .ref b] h (fun v h' => v = some (.ref a) ∧ SB E h' lab a (t ++ u) ∧ Fr [lab] h h') := by
  have hA' := hA
  obtain ⟨arr, f, h1, h2, h3, h4⟩ := hA
  refine Cg.of (by first | exact plainFor_of_name (by decide) | decide +kernel) [some (.ref a), some (.ref b)] (Nat.le_of_ble_eq_true rfl) rfl ?_
  intro p e s m args below meth c O
  refine g_aload_n O dJ12_append_0 rfl (by first | rfl | exact rf_ref _) ?_
  refine g_aload_n O dJ12_append_1 rfl (by first | rfl | exact rf_ref _) ?_
  refine g_callSU O (n := 1) (c_J11_append l E h hA' hm hB ht) rfl rfl h1 dJ12_append_2 (va_cwSU 1 O.ts (lw_SU q446 q1770 q441 q447 q53 q448) rfl rfl rfl (by decide +kernel) (g_rm (by decide) (by decide))) rfl rfl (by first | exact Nat.le_of_ble_eq_true rfl | omega) (by first | exact Nat.le_of_ble_eq_true rfl | omega) (by first | exact Nat.le_of_ble_eq_true rfl | omega) (fun v h1 hp => ?_)
  obtain ⟨rfl, e1, e2⟩ := hp
  refine g_pop O dJ12_append_5 rfl ?_
  refine g_aload_n O dJ12_append_6 rfl (by first | rfl | exact rf_ref _) ?_
  exact g_aret O dJ12_append_7 (by first | exact Or.inl ⟨_, rfl⟩ | exact Or.inr ⟨_, rfl⟩) (by first | exact Or.inl rfl | exact Or.inr ⟨_, rfl⟩) (by first | exact Nat.le_of_ble_eq_true rfl | omega) (by first | exact Nat.le_of_ble_eq_true rfl | omega) ⟨rfl, e1, e2⟩
theorem c_J17_checkFromTo (l : Launch) (E : GE) (h : HV) (i n k : Nat) (z : Option Nat) (hi : i ≤ n) (hn : n ≤ k) (hk : k < 2 ^ 31) : Cg l E yJ17_checkFromToIndex cJ17_checkFromToIndex 4 (some .int) 0 0 0 [.int (nI i), .int (nI n), .int (nI k), va_rf z] h (fun v h' => v = some (.int (nI i)) ∧ h = h') := by
  cases z with
  | none =>
    refine Cg.of (by first | exact plainFor_of_name (by decide) | decide +kernel) [some (.int (nI i)), some (.int (nI n)), some (.int (nI k)), some .null] (Nat.le_of_ble_eq_true rfl) rfl ?_
    intro p e s m args below meth c O
    refine g_iload_n O dJ17_checkFromToIndex_0 rfl ?_
    refine g_if_lt O 14 dJ17_checkFromToIndex_1 (by decide) (fun hc => ?_) (fun hc => ?_)
    · exact absurd hc (nI_pos (by omega))
    · refine g_iload_n O dJ17_checkFromToIndex_4 rfl ?_
      refine g_iload_n O dJ17_checkFromToIndex_5 rfl ?_
      refine g_icmp_gt O 14 dJ17_checkFromToIndex_6 (by decide) (fun hc => ?_) (fun hc => ?_)
      · exact absurd ((nI_ltI (by omega) (by omega)).mp hc) (by omega)
      · refine g_iload_n O dJ17_checkFromToIndex_9 rfl ?_
        refine g_iload_n O dJ17_checkFromToIndex_10 rfl ?_
        refine g_icmp_le O 22 dJ17_checkFromToIndex_11 (by decide) (fun hc2 => ?_) (fun hc2 => ?_)
        · refine g_iload_n O dJ17_checkFromToIndex_22 rfl ?_
          exact g_iret O dJ17_checkFromToIndex_23 (by first | exact Nat.le_of_ble_eq_true rfl | omega) (by first | exact Nat.le_of_ble_eq_true rfl | omega) ⟨rfl, rfl⟩
        · exact absurd (nI_le hn hk) hc2
  | some z =>
    refine Cg.of (by first | exact plainFor_of_name (by decide) | decide +kernel) [some (.int (nI i)), some (.int (nI n)), some (.int (nI k)), some (.ref z)] (Nat.le_of_ble_eq_true rfl) rfl ?_
    intro p e s m args below meth c O
    refine g_iload_n O dJ17_checkFromToIndex_0 rfl ?_
    refine g_if_lt O 14 dJ17_checkFromToIndex_1 (by decide) (fun hc => ?_) (fun hc => ?_)
    · exact absurd hc (nI_pos (by omega))
    · refine g_iload_n O dJ17_checkFromToIndex_4 rfl ?_
      refine g_iload_n O dJ17_checkFromToIndex_5 rfl ?_
      refine g_icmp_gt O 14 dJ17_checkFromToIndex_6 (by decide) (fun hc => ?_) (fun hc => ?_)
      · exact absurd ((nI_ltI (by omega) (by omega)).mp hc) (by omega)
      · refine g_iload_n O dJ17_checkFromToIndex_9 rfl ?_
        refine g_iload_n O dJ17_checkFromToIndex_10 rfl ?_
        refine g_icmp_le O 22 dJ17_checkFromToIndex_11 (by decide) (fun hc2 => ?_) (fun hc2 => ?_)
        · refine g_iload_n O dJ17_checkFromToIndex_22 rfl ?_
          exact g_iret O dJ17_checkFromToIndex_23 (by first | exact Nat.le_of_ble_eq_true rfl | omega) (by first | exact Nat.le_of_ble_eq_true rfl | omega) ⟨rfl, rfl⟩
        · exact absurd (nI_le hn hk) hc2
theorem c_J9_checkOffset (l : Launch) (E : GE) (h : HV) (i n : Nat) (hi : i ≤ n) (hn : n < 2 ^ 31) : Cg l E yJ9_checkOffset cJ9_checkOffset 2 none 1 0 0 [.int (nI i), .int (nI n)] h (fun v h' => v = none ∧ h = h') := by
  refine Cg.of (by first | exact plainFor_of_name (by decide) | decide +kernel) [some (.int (nI i)), some (.int (nI n))] (Nat.le_of_ble_eq_true rfl) rfl ?_
  intro p e s m args below meth c O
  refine g_iload_n O dJ9_checkOffset_0 rfl ?_
  refine g_iload_n O dJ9_checkOffset_1 rfl ?_
  refine g_iload_n O dJ9_checkOffset_2 rfl ?_
  refine g_sioobe O q503 dJ9_checkOffset_3 (fun z => ?_)
  refine g_callS O (n := 4) (c_J17_checkFromTo l E h i n n z hi (Nat.le_refl n) hn) rfl dJ9_checkOffset_6 q505 q506 q60 q507 (by decide +kernel) rfl rfl (by first | decide | omega) (by decide) (by first | exact Nat.le_of_ble_eq_true rfl | omega) (by first | exact Nat.le_of_ble_eq_true rfl | omega) (by first | exact Nat.le_of_ble_eq_true rfl | omega) (fun v h1 hp => ?_)
  obtain ⟨rfl, rfl⟩ := hp
  refine g_pop O dJ9_checkOffset_9 rfl ?_
  exact g_vret O dJ9_checkOffset_10 (by first | exact Nat.le_of_ble_eq_true rfl | omega) (by first | exact Nat.le_of_ble_eq_true rfl | omega) ⟨rfl, rfl⟩
/-- shift(i, 1) -/
theorem c_J11_shift (l : Launch) (E : GE) (h : HV) {lab a arr k i : Nat} {f : Nat → Int32} (h1 : h a = some (lab, cSB arr k)) (h2 : h arr = some (lab, cBytes E 16 f)) (hm : lab ≠ 0) (hi : i ≤ k) (hk : k < 16) (hf : ∀ j, j < k → fits .byte (.int (f j)) = true) : Cg l E yJ11_shift cJ11_shift 3 none 1 0 0 [.ref a, .int (nI i), .int (nI 1)] h (fun v h' => v = none ∧ ∃ g : Nat → Int32, hup h arr (lab, cBytes E 16 g) = h' ∧ (∀ j, j < i → g j = f j) ∧ ∀ j, i ≤ j → j < k → g (j + 1) = f j) := by
  refine Cg.of (by first | exact plainFor_of_name (by decide) | decide +kernel) [some (.ref a), some (.int (nI i)), some (.int (nI 1))] (Nat.le_of_ble_eq_true rfl) rfl ?_
  intro p e s m args below meth c O
  refine g_aload_n O dJ11_shift_0 rfl (by first | rfl | exact rf_ref _) ?_
  refine g_get O 14 0 rfl h1 dJ11_shift_1 q429 rfl (by decide) rfl rfl ?_
  refine g_iload_n O dJ11_shift_4 rfl ?_
  refine g_aload_n O dJ11_shift_5 rfl (by first | rfl | exact rf_ref _) ?_
  refine g_get O 14 1 rfl h1 dJ11_shift_6 q430 rfl (by decide) rfl rfl ?_
  refine g_ishl O dJ11_shift_9 ?_
  rw [shl0]
  refine g_aload_n O dJ11_shift_10 rfl (by first | rfl | exact rf_ref _) ?_
  refine g_get O 14 0 rfl h1 dJ11_shift_11 q429 rfl (by decide) rfl rfl ?_
  refine g_iload_n O dJ11_shift_14 rfl ?_
  refine g_iload_n O dJ11_shift_15 rfl ?_
  refine g_iadd O dJ11_shift_16 ?_
  rw [nI_add]
  refine g_aload_n O dJ11_shift_17 rfl (by first | rfl | exact rf_ref _) ?_
  refine g_get O 14 1 rfl h1 dJ11_shift_18 q430 rfl (by decide) rfl rfl ?_
  refine g_ishl O dJ11_shift_21 ?_
  rw [shl0]
  refine g_aload_n O dJ11_shift_22 rfl (by first | rfl | exact rf_ref _) ?_
  refine g_get O 14 3 rfl h1 dJ11_shift_23 q432 rfl (by decide) rfl rfl ?_
  refine g_iload_n O dJ11_shift_26 rfl ?_
  refine g_isub O dJ11_shift_27 ?_
  rw [pk_sub hi]
  refine g_aload_n O dJ11_shift_28 rfl (by first | rfl | exact rf_ref _) ?_
  refine g_get O 14 1 rfl h1 dJ11_shift_29 q430 rfl (by decide) rfl rfl ?_
  refine g_ishl O dJ11_shift_32 ?_
  rw [shl0]
  refine g_acopyB O i (i + 1) (k - i) rfl rfl rfl h2 h2 hm (by omega) (by omega) (by omega) (by omega) (fun j hj => hf _ (by omega)) q1174 rfl (Nat.le_refl 1) (Nat.le_of_ble_eq_true rfl) dJ11_shift_33 ?_
  refine g_vret O dJ11_shift_36 (Nat.le_refl _) (Nat.le_refl _) ⟨rfl, _, rfl, fun j hj => ?_, fun j hj1 hj2 => ?_⟩
  · unfold va_cpy
    rw [if_neg (by omega)]
  · unfold va_cpy
    rw [if_pos (by omega)]
    congr 1
    omega
/-- insert(0, c) -/
theorem c_J11_insert (l : Launch) (E : GE) (h : HV) {lab a k : Nat} {t : List Nat} (hA : SB E h lab a t) (hm : lab ≠ 0) (ht : t.length < 16) (hk : k < 128) : Cg l E yJ11_insert cJ11_insert 3 (some (.object "java/lang/AbstractStringBuilder")) 2 0 0 [.ref a, .int (nI 0), .int (nI k)] h (fun v h' => v = some (.ref a) ∧ SB E h' lab a (k :: t) ∧ Fr [lab] h h') := by
  have hA' := hA
  obtain ⟨arr, f, h1, h2, h3, h4⟩ := hA
  have hne : a ≠ arr := hv_ne h1 h2 (by simp)
  refine Cg.of (by first | exact plainFor_of_name (by decide) | decide +kernel) [some (.ref a), some (.int (nI 0)), some (.int (nI k))] (Nat.le_of_ble_eq_true rfl) rfl ?_
  intro p e s m args below meth c O
  refine g_iload_n O dJ11_insert_0 rfl ?_
  refine g_aload_n O dJ11_insert_1 rfl (by first | rfl | exact rf_ref _) ?_
  refine g_get O 14 3 rfl h1 dJ11_insert_2 q432 rfl (by decide) rfl rfl ?_
  refine g_callS O (n := 2) (c_J9_checkOffset l E h 0 t.length (Nat.zero_le _) (by omega)) rfl dJ11_insert_5 q1169 q1052 q51 q1053 (by decide +kernel) rfl rfl (by first | decide | omega) (by decide) (by first | exact Nat.le_of_ble_eq_true rfl | omega) (by first | exact Nat.le_of_ble_eq_true rfl | omega) (by first | exact Nat.le_of_ble_eq_true rfl | omega) (fun v h1 hp => ?_)
  obtain ⟨rfl, rfl⟩ := hp
  refine g_aload_n O dJ11_insert_8 rfl (by first | rfl | exact rf_ref _) ?_
  refine g_aload_n O dJ11_insert_9 rfl (by first | rfl | exact rf_ref _) ?_
  refine g_get O 14 3 rfl h1 dJ11_insert_10 q432 rfl (by decide) rfl rfl ?_
  refine g_iconst O dJ11_insert_13 (nI 1) rfl ?_
  refine g_iadd O dJ11_insert_14 ?_
  rw [nI_add]
  refine g_callX O (n := 1) (c_J11_ensure l E h hA' (by omega)) rfl (ci := 14) rfl h1 dJ11_insert_15 q453 q455 (g_selP O (C := RJ12) (z := yJ11_isLatin1) rfl (by decide) q454 q455 q489) q53 q456 (by decide +kernel) rfl rfl (by first | decide | omega) (by decide) (by first | exact Nat.le_of_ble_eq_true rfl | omega) (by first | exact Nat.le_of_ble_eq_true rfl | omega) (by first | exact Nat.le_of_ble_eq_true rfl | omega) (fun v h1 hp => ?_)
  obtain ⟨rfl, rfl⟩ := hp
  have hfit : ∀ j, j < t.length → fits .byte (.int (f j)) = true := fun j hj => by
    have e1 : t[j]? = some t[j] := List.getElem?_eq_getElem hj
    obtain ⟨b1, b2⟩ := h4 j _ e1
    rw [b2]
    exact (byte_nI b1).2.2.2.2
  refine g_aload_n O dJ11_insert_18 rfl (by first | rfl | exact rf_ref _) ?_
  refine g_iload_n O dJ11_insert_19 rfl ?_
  refine g_iconst O dJ11_insert_20 (nI 1) rfl ?_
  refine g_callX O (n := 2) (c_J11_shift l E h h1 h2 hm (Nat.zero_le _) ht hfit) rfl (ci := 14) rfl h1 dJ11_insert_21 q1170 q1172 (g_selP O (C := RJ12) (z := yJ11_isLatin1) rfl (by decide) q1171 q1172 q489) q53 q1173 (by decide +kernel) rfl rfl (by first | decide | omega) (by decide) (by first | exact Nat.le_of_ble_eq_true rfl | omega) (by first | exact Nat.le_of_ble_eq_true rfl | omega) (by first | exact Nat.le_of_ble_eq_true rfl | omega) (fun v h1 hp => ?_)
  obtain ⟨rfl, g', rfl, e2, e3⟩ := hp
  have h1' : hup h arr (lab, cBytes E 16 g') a = some (lab, cSB arr t.length) := (hup_ne hne).trans h1
  refine g_aload_n O dJ11_insert_24 rfl (by first | rfl | exact rf_ref _) ?_
  refine g_dup O dJ11_insert_25 rfl ?_
  refine g_get O 14 3 rfl h1' dJ11_insert_26 q432 rfl (by decide) rfl rfl ?_
  refine g_iconst O dJ11_insert_29 (nI 1) rfl ?_
  refine g_iadd O dJ11_insert_30 ?_
  rw [nI_add]
  refine g_put O 14 3 rfl h1' hm dJ11_insert_31 q432 rfl (by decide) rfl rfl rfl (by first | exact Nat.le_of_ble_eq_true rfl | omega) ?_
  obtain ⟨h9, hh9⟩ : ∃ h9, hup (hup h arr (lab, cBytes E 16 g')) a (lab, cSB arr (t.length + 1)) = h9 := ⟨_, rfl⟩
  refine Wg.H h9 (by rw [← hh9]; rfl) ?_
  have r1 : h9 a = some (lab, cSB arr (t.length + 1)) := by rw [← hh9]; exact hup_self
  have r2 : h9 arr = some (lab, cBytes E 16 g') := by rw [← hh9]; exact (hup_ne hne.symm).trans hup_self
  have r3 : Fr [lab] h h9 := by rw [← hh9]; exact (Fr.rf.up h2 (List.mem_singleton.mpr rfl)).up h1' (List.mem_singleton.mpr rfl)
  clear hh9
  have lat : Cg l E yJ11_isLatin1 cJ11_isLatin1 1 (some .boolean) 0 0 0 [.ref a] h9 (fun v h' => v = some (.int (nI 1)) ∧ h9 = h') := c_J11_isLatin1R l E h9 r1
  refine g_aload_n O dJ11_insert_34 rfl (by first | rfl | exact rf_ref _) ?_
  refine g_callX O (n := 0) lat rfl (ci := 14) rfl r1 dJ11_insert_35 q486 q487 (O.ts _ q489) q53 q490 (by decide +kernel) rfl rfl (by first | decide | omega) (by decide) (by first | exact Nat.le_of_ble_eq_true rfl | omega) (by first | exact Nat.le_of_ble_eq_true rfl | omega) (by first | exact Nat.le_of_ble_eq_true rfl | omega) (fun v h1 hp => ?_)
  obtain ⟨rfl, rfl⟩ := hp
  refine g_if_eq O 59 dJ11_insert_38 (by decide) (fun hc => ?_) (fun hc => ?_)
  · exact absurd hc (by decide)
  · refine g_iload_n O dJ11_insert_41 rfl ?_
    refine g_callS O (n := 1) (c_J18_canEncode l E h9 hk) rfl dJ11_insert_42 q559 q560 q61 q561 (by decide +kernel) rfl rfl (by first | decide | omega) (by decide) (by first | exact Nat.le_of_ble_eq_true rfl | omega) (by first | exact Nat.le_of_ble_eq_true rfl | omega) (by first | exact Nat.le_of_ble_eq_true rfl | omega) (fun v h1 hp => ?_)
    obtain ⟨rfl, rfl⟩ := hp
    refine g_if_eq O 59 dJ11_insert_45 (by decide) (fun hc2 => ?_) (fun hc2 => ?_)
    · exact absurd hc2 (by decide)
    · refine g_aload_n O dJ11_insert_48 rfl (by first | rfl | exact rf_ref _) ?_
      refine g_get O 14 0 rfl r1 dJ11_insert_49 q429 rfl (by decide) rfl rfl ?_
      refine g_iload_n O dJ11_insert_52 rfl ?_
      refine g_iload_n O dJ11_insert_53 rfl ?_
      refine g_i2b O dJ11_insert_54 ?_
      rw [(byte_nI hk).2.2.1]
      refine g_bast O 0 rfl (by decide) (by decide) r2 hm dJ11_insert_55 ?_
      refine g_goto O 79 dJ11_insert_56 (by decide) ?_
      refine g_aload_n O dJ11_insert_79 rfl (by first | rfl | exact rf_ref _) ?_
      refine g_aret O dJ11_insert_80 (Or.inl ⟨_, rfl⟩) (Or.inr ⟨_, rfl⟩) (Nat.le_refl _) (Nat.le_refl _) ⟨rfl, ⟨arr, upd g' 0 (vp_nar .byte (nI k)), (hup_ne hne).trans r1, hup_self, ?_, ?_⟩, r3.up r2 (List.mem_singleton.mpr rfl)⟩
      · show t.length + 1 ≤ 16
        omega
      · intro j c2 hj
        cases j with
        | zero =>
          cases hj
          rw [pk_us, (byte_nI hk).2.2.2.1]
          exact ⟨hk, rfl⟩
        | succ j =>
          rw [List.getElem?_cons_succ] at hj
          have hlt : j < t.length := (List.getElem?_eq_some_iff.mp hj).1
          rw [pk_un (by omega), e3 j (Nat.zero_le _) hlt]
          exact h4 j c2 hj
theorem c_J12_insert (l : Launch) (E : GE) (h : HV) {lab a k : Nat} {t : List Nat} (hA : SB E h lab a t) (hm : lab ≠ 0) (ht : t.length < 16) (hk : k < 128) : Cg l E yJ12_insert cJ12_insert 3 (some (.object "java/lang/StringBuilder")) 3 0 0 [.ref a, .int (nI 0), .int (nI k)] h (fun v h' => v = some (.ref a) ∧ SB E h' lab a (k :: t) ∧ Fr [lab] h h') := by
  have hA' := hA
  obtain ⟨arr, f, h1, h2, h3, h4⟩ := hA
  refine Cg.of (by first | exact plainFor_of_name (by decide) | decide +kernel) [some (.ref a), some (.int (nI 0)), some (.int (nI k))] (Nat.le_of_ble_eq_true rfl) rfl ?_
  intro p e s m args below meth c O
  refine g_aload_n O dJ12_insert_0 rfl (by first | rfl | exact rf_ref _) ?_
  refine g_iload_n O dJ12_insert_1 rfl ?_
  refine g_iload_n O dJ12_insert_2 rfl ?_
  refine g_callSU O (n := 2) (c_J11_insert l E h hA' hm ht hk) rfl rfl h1 dJ12_insert_3 (va_cwSU 2 O.ts (lw_SU q1166 q1780 q441 q1167 q53 q1168) rfl rfl rfl (by decide +kernel) (g_rm (by decide) (by decide))) rfl rfl (by first | exact Nat.le_of_ble_eq_true rfl | omega) (by first | exact Nat.le_of_ble_eq_true rfl | omega) (by first | exact Nat.le_of_ble_eq_true rfl | omega) (fun v h1 hp => ?_)
  obtain ⟨rfl, e1, e2⟩ := hp
  refine g_pop O dJ12_insert_6 rfl ?_
  refine g_aload_n O dJ12_insert_7 rfl (by first | rfl | exact rf_ref _) ?_
  exact g_aret O dJ12_insert_8 (by first | exact Or.inl ⟨_, rfl⟩ | exact Or.inr ⟨_, rfl⟩) (by first | exact Or.inl rfl | exact Or.inr ⟨_, rfl⟩) (by first | exact Nat.le_of_ble_eq_true rfl | omega) (by first | exact Nat.le_of_ble_eq_true rfl | omega) ⟨rfl, e1, e2⟩
