set_option maxRecDepth 100000
/-! String -/
/-- a String with the signs l (below 128), never written -/
def Str (E : GE) (h : HV) (a : Nat) (l : List Nat) : Prop :=
  ∃ (arr : Nat) (f : Nat → Int32) (u v : Value), h a = some (0, .inr (15, [.ref arr, .int 0, u, v])) ∧ h arr = some (0, cBytes E l.length f) ∧ l.length ≤ 1000 ∧ ∀ (j c : Nat), l[j]? = some c → c < 128 ∧ f j = nI c
theorem Str.fr {E : GE} {h h' : HV} {a : Nat} {l S : List Nat} (f : Fr S h h') (h0 : 0 ∉ S) (hA : Str E h a l) : Str E h' a l := by
  obtain ⟨arr, g, u, v, h1, h2, h3⟩ := hA
  exact ⟨arr, g, u, v, f _ _ h1 h0, f _ _ h2 h0, h3⟩
theorem Str.any {E : GE} {h : HV} {a : Nat} {l : List Nat} (hA : Str E h a l) : gAny h a := by
  obtain ⟨arr, g, u, v, h1, h2, h3⟩ := hA
  exact ⟨0, 15, 4, _, RJ9, TJ9, h1, rfl, q1793⟩
theorem Str.empty {E : GE} {h : HV} (hG : GC E h) : Str E h (gc E 0) [] := by
  obtain ⟨⟨u, v, h1⟩, h2, h3⟩ := hG
  exact ⟨gc E 1, _, u, v, h1, h2, by decide, fun j c hj => by simp at hj⟩
theorem c_J9_coder (l : Launch) (E : GE) (h : HV) {a : Nat} {t : List Nat} (hA : Str E h a t) : Cg l E yJ9_coder cJ9_coder 1 (some .byte) 0 0 0 [.ref a] h (fun v h' => v = some (.int 0) ∧ h = h') := by
  obtain ⟨arr, g, u, v, h1, h2, h3, h4⟩ := hA
  refine Cg.of (by first | exact plainFor_of_name (by decide) | decide +kernel) [some (.ref a)] (Nat.le_of_ble_eq_true rfl) rfl ?_
  intro p e s m args below meth c O
  refine g_compact O q392 dJ9_coder_0 ?_
  refine g_if_eq O 13 dJ9_coder_3 (by decide) (fun hc => ?_) (fun hc => ?_)
  · exact absurd hc (by decide)
  · refine g_aload_n O dJ9_coder_6 rfl (by first | rfl | exact rf_ref _) ?_
    refine g_get O 15 1 rfl h1 dJ9_coder_7 q665 rfl (by decide) rfl rfl ?_
    refine g_goto O 14 dJ9_coder_10 (by decide) ?_
    exact g_zret O dJ9_coder_14 rfl (by first | exact Nat.le_of_ble_eq_true rfl | omega) (by first | exact Nat.le_of_ble_eq_true rfl | omega) ⟨rfl, rfl⟩
theorem c_J9_length (l : Launch) (E : GE) (h : HV) {a : Nat} {t : List Nat} (hA : Str E h a t) : Cg l E yJ9_length cJ9_length 1 (some .int) 1 0 0 [.ref a] h (fun v h' => v = some (.int (nI t.length)) ∧ h = h') := by
  have hA' := hA
  obtain ⟨arr, g, u, v, h1, h2, h3, h4⟩ := hA
  refine Cg.of (by first | exact plainFor_of_name (by decide) | decide +kernel) [some (.ref a)] (Nat.le_of_ble_eq_true rfl) rfl ?_
  intro p e s m args below meth c O
  refine g_aload_n O dJ9_length_0 rfl (by first | rfl | exact rf_ref _) ?_
  refine g_get O 15 0 rfl h1 dJ9_length_1 q664 rfl (by decide) rfl rfl ?_
  refine g_alen O 3 rfl h2 dJ9_length_4 ?_
  refine g_aload_n O dJ9_length_5 rfl (by first | rfl | exact rf_ref _) ?_
  refine g_callV O (n := 0) (c_J9_coder l E h hA') rfl rfl h1 dJ9_length_6 q388 q389 q390 q51 q391 rfl (by decide +kernel) rfl rfl (by first | decide | omega) (by decide) (by first | exact Nat.le_of_ble_eq_true rfl | omega) (by first | exact Nat.le_of_ble_eq_true rfl | omega) (by first | exact Nat.le_of_ble_eq_true rfl | omega) (fun v h1 hp => ?_)
  obtain ⟨rfl, rfl⟩ := hp
  refine g_ishr O dJ9_length_9 ?_
  rw [sc_shr0 (by omega : t.length < 2 ^ 31)]
  exact g_iret O dJ9_length_10 (by first | exact Nat.le_of_ble_eq_true rfl | omega) (by first | exact Nat.le_of_ble_eq_true rfl | omega) ⟨rfl, rfl⟩
theorem c_J9_isLatin1 (l : Launch) (E : GE) (h : HV) {a : Nat} {t : List Nat} (hA : Str E h a t) : Cg l E yJ9_isLatin1 cJ9_isLatin1 1 (some .boolean) 0 0 0 [.ref a] h (fun v h' => v = some (.int (nI 1)) ∧ h = h') := by
  obtain ⟨arr, g, u, v, h1, h2, h3, h4⟩ := hA
  refine Cg.of (by first | exact plainFor_of_name (by decide) | decide +kernel) [some (.ref a)] (Nat.le_of_ble_eq_true rfl) rfl ?_
  intro p e s m args below meth c O
  refine g_compact O q392 dJ9_isLatin1_0 ?_
  refine g_if_eq O 17 dJ9_isLatin1_3 (by decide) (fun hc => ?_) (fun hc => ?_)
  · exact absurd hc (by decide)
  · refine g_aload_n O dJ9_isLatin1_6 rfl (by first | rfl | exact rf_ref _) ?_
    refine g_get O 15 1 rfl h1 dJ9_isLatin1_7 q665 rfl (by decide) rfl rfl ?_
    refine g_if_ne O 17 dJ9_isLatin1_10 (by decide) (fun hc2 => ?_) (fun hc2 => ?_)
    · exact absurd rfl hc2
    · refine g_iconst O dJ9_isLatin1_13 (nI 1) rfl ?_
      refine g_goto O 18 dJ9_isLatin1_14 (by decide) ?_
      exact g_zret O dJ9_isLatin1_18 rfl (by first | exact Nat.le_of_ble_eq_true rfl | omega) (by first | exact Nat.le_of_ble_eq_true rfl | omega) ⟨rfl, rfl⟩
theorem c_J17_checkIndexF (l : Launch) (E : GE) (h : HV) (i n : Nat) (z : Option Nat) (hi : i < n) (hn : n < 2 ^ 31) : Cg l E yJ17_checkIndex cJ17_checkIndex 3 (some .int) 0 0 0 [.int (nI i), .int (nI n), va_rf z] h (fun v h' => v = some (.int (nI i)) ∧ h = h') := by
  cases z with
  | none => exact c_J17_checkIndex l E h i n hi hn
  | some z =>
    refine Cg.of (by first | exact plainFor_of_name (by decide) | decide +kernel) [some (.int (nI i)), some (.int (nI n)), some (.ref z)] (Nat.le_of_ble_eq_true rfl) rfl ?_
    intro p e s m args below meth c O
    refine g_iload_n O dJ17_checkIndex_0 rfl ?_
    refine g_if_lt O 9 dJ17_checkIndex_1 (by decide) (fun hc => ?_) (fun hc => ?_)
    · exact absurd hc (nI_pos (Nat.lt_trans hi hn))
    · refine g_iload_n O dJ17_checkIndex_4 rfl ?_
      refine g_iload_n O dJ17_checkIndex_5 rfl ?_
      refine g_icmp_lt O 16 dJ17_checkIndex_6 (by decide) (fun hc => ?_) (fun hc => ?_)
      · refine g_iload_n O dJ17_checkIndex_16 rfl ?_
        exact g_iret O dJ17_checkIndex_17 (by first | exact Nat.le_of_ble_eq_true rfl | omega) (by first | exact Nat.le_of_ble_eq_true rfl | omega) ⟨rfl, rfl⟩
      · exact absurd (nI_lt hi hn) hc
theorem c_J9_checkIndex (l : Launch) (E : GE) (h : HV) (i n : Nat) (hi : i < n) (hn : n < 2 ^ 31) : Cg l E yJ9_checkIndex cJ9_checkIndex 2 none 1 0 0 [.int (nI i), .int (nI n)] h (fun v h' => v = none ∧ h = h') := by
  refine Cg.of (by first | exact plainFor_of_name (by decide) | decide +kernel) [some (.int (nI i)), some (.int (nI n))] (Nat.le_of_ble_eq_true rfl) rfl ?_
  intro p e s m args below meth c O
  refine g_iload_n O dJ9_checkIndex_0 rfl ?_
  refine g_iload_n O dJ9_checkIndex_1 rfl ?_
  refine g_sioobe O q503 dJ9_checkIndex_2 (fun z => ?_)
  refine g_callS O (n := 3) (c_J17_checkIndexF l E h i n z hi hn) rfl dJ9_checkIndex_5 q571 q245 q60 q246 (by decide +kernel) rfl rfl (by first | decide | omega) (by decide) (by first | exact Nat.le_of_ble_eq_true rfl | omega) (by first | exact Nat.le_of_ble_eq_true rfl | omega) (by first | exact Nat.le_of_ble_eq_true rfl | omega) (fun v h1 hp => ?_)
  obtain ⟨rfl, rfl⟩ := hp
  refine g_pop O dJ9_checkIndex_8 rfl ?_
  exact g_vret O dJ9_checkIndex_9 (by first | exact Nat.le_of_ble_eq_true rfl | omega) (by first | exact Nat.le_of_ble_eq_true rfl | omega) ⟨rfl, rfl⟩
/-- a sign's byte -/
theorem byte_nI {c : Nat} (h : c < 128) : nI c &&& nI 255 = nI c ∧ ((nI c).toUInt32 % 65536).toInt32 = nI c ∧ (nI c).toInt8.toInt32 = nI c ∧ vp_nar .byte (nI c) = nI c ∧ fits .byte (.int (nI c)) = true := by
  have h1 : ∀ c : Fin 128, nI c.val &&& nI 255 = nI c.val ∧ ((nI c.val).toUInt32 % 65536).toInt32 = nI c.val ∧ (nI c.val).toInt8.toInt32 = nI c.val ∧ vp_nar .byte (nI c.val) = nI c.val ∧ fits .byte (.int (nI c.val)) = true := by decide +kernel
  exact h1 ⟨c, h⟩
theorem c_J18_charAt (l : Launch) (E : GE) (h : HV) {arr lab n i c : Nat} {f : Nat → Int32} (hr : h arr = some (lab, cBytes E n f)) (hi : i < n) (hn : n ≤ 1000) (hc : c < 128) (hf : f i = nI c) : Cg l E yJ18_charAt cJ18_charAt 2 (some .char) 2 0 0 [.ref arr, .int (nI i)] h (fun v h' => v = some (.int (nI c)) ∧ h = h') := by
  refine Cg.of (by first | exact plainFor_of_name (by decide) | decide +kernel) [some (.ref arr), some (.int (nI i))] (Nat.le_of_ble_eq_true rfl) rfl ?_
  intro p e s m args below meth c O
  refine g_iload_n O dJ18_charAt_0 rfl ?_
  refine g_aload_n O dJ18_charAt_1 rfl (by first | rfl | exact rf_ref _) ?_
  refine g_alen O 3 rfl hr dJ18_charAt_2 ?_
  refine g_callS O (n := 2) (c_J9_checkIndex l E h i n hi (by omega)) rfl dJ18_charAt_3 q1158 q569 q51 q570 (by decide +kernel) rfl rfl (by first | decide | omega) (by decide) (by first | exact Nat.le_of_ble_eq_true rfl | omega) (by first | exact Nat.le_of_ble_eq_true rfl | omega) (by first | exact Nat.le_of_ble_eq_true rfl | omega) (fun v h1 hp => ?_)
  obtain ⟨rfl, rfl⟩ := hp
  refine g_aload_n O dJ18_charAt_6 rfl (by first | rfl | exact rf_ref _) ?_
  refine g_iload_n O dJ18_charAt_7 rfl ?_
  refine g_bald O i rfl hi (by omega) hr dJ18_charAt_8 ?_
  refine g_sipush O dJ18_charAt_9 (nI 255) rfl ?_
  refine g_iand O dJ18_charAt_12 ?_
  rw [hf, (byte_nI hc).1]
  refine g_i2c O dJ18_charAt_13 ?_
  rw [(byte_nI hc).2.1]
  exact g_zret O dJ18_charAt_14 ((pk_charN (by omega)).1) (by first | exact Nat.le_of_ble_eq_true rfl | omega) (by first | exact Nat.le_of_ble_eq_true rfl | omega) ⟨rfl, rfl⟩
theorem c_J9_charAt (l : Launch) (E : GE) (h : HV) {a i c : Nat} {t : List Nat} (hA : Str E h a t) (hi : t[i]? = some c) : Cg l E yJ9_charAt cJ9_charAt 2 (some .char) 3 0 0 [.ref a, .int (nI i)] h (fun v h' => v = some (.int (nI c)) ∧ h = h') := by
  have hA' := hA
  have hlt : i < t.length := (List.getElem?_eq_some_iff.mp hi).1
  obtain ⟨arr, g, u, v, h1, h2, h3, h4⟩ := hA
  refine Cg.of (by first | exact plainFor_of_name (by decide) | decide +kernel) [some (.ref a), some (.int (nI i))] (Nat.le_of_ble_eq_true rfl) rfl ?_
  intro p e s m args below meth c O
  refine g_aload_n O dJ9_charAt_0 rfl (by first | rfl | exact rf_ref _) ?_
  refine g_callV O (n := 0) (c_J9_isLatin1 l E h hA') rfl rfl h1 dJ9_charAt_1 q1151 q1152 q1153 q51 q1154 rfl (by decide +kernel) rfl rfl (by first | decide | omega) (by decide) (by first | exact Nat.le_of_ble_eq_true rfl | omega) (by first | exact Nat.le_of_ble_eq_true rfl | omega) (by first | exact Nat.le_of_ble_eq_true rfl | omega) (fun v h1 hp => ?_)
  obtain ⟨rfl, rfl⟩ := hp
  refine g_if_eq O 16 dJ9_charAt_4 (by decide) (fun hc => ?_) (fun hc => ?_)
  · exact absurd hc (by decide)
  · refine g_aload_n O dJ9_charAt_7 rfl (by first | rfl | exact rf_ref _) ?_
    refine g_get O 15 0 rfl h1 dJ9_charAt_8 q664 rfl (by decide) rfl rfl ?_
    refine g_iload_n O dJ9_charAt_11 rfl ?_
    refine g_callS O (n := 2) (c_J18_charAt l E h h2 hlt h3 (h4 i _ hi).1 (h4 i _ hi).2) rfl dJ9_charAt_12 q1155 q1156 q61 q1157 (by decide +kernel) rfl rfl (by first | decide | omega) (by decide) (by first | exact Nat.le_of_ble_eq_true rfl | omega) (by first | exact Nat.le_of_ble_eq_true rfl | omega) (by first | exact Nat.le_of_ble_eq_true rfl | omega) (fun v h1 hp => ?_)
    obtain ⟨rfl, rfl⟩ := hp
    exact g_zret O dJ9_charAt_15 ((pk_charN (Nat.lt_trans (h4 i _ hi).1 (by decide))).1) (by first | exact Nat.le_of_ble_eq_true rfl | omega) (by first | exact Nat.le_of_ble_eq_true rfl | omega) ⟨rfl, rfl⟩
theorem c_J18_getChar (l : Launch) (E : GE) (h : HV) {arr lab n i c : Nat} {f : Nat → Int32} (hr : h arr = some (lab, cBytes E n f)) (hi : i < n) (hn : n ≤ 1000) (hc : c < 128) (hf : f i = nI c) : Cg l E yJ18_getChar cJ18_getChar 2 (some .char) 0 0 0 [.ref arr, .int (nI i)] h (fun v h' => v = some (.int (nI c)) ∧ h = h') := by
  refine Cg.of (by first | exact plainFor_of_name (by decide) | decide +kernel) [some (.ref arr), some (.int (nI i))] (Nat.le_of_ble_eq_true rfl) rfl ?_
  intro p e s m args below meth c O
  refine g_aload_n O dJ18_getChar_0 rfl (by first | rfl | exact rf_ref _) ?_
  refine g_iload_n O dJ18_getChar_1 rfl ?_
  refine g_bald O i rfl hi (by omega) hr dJ18_getChar_2 ?_
  refine g_sipush O dJ18_getChar_3 (nI 255) rfl ?_
  refine g_iand O dJ18_getChar_6 ?_
  rw [hf, (byte_nI hc).1]
  refine g_i2c O dJ18_getChar_7 ?_
  rw [(byte_nI hc).2.1]
  exact g_zret O dJ18_getChar_8 ((pk_charN (by omega)).1) (by first | exact Nat.le_of_ble_eq_true rfl | omega) (by first | exact Nat.le_of_ble_eq_true rfl | omega) ⟨rfl, rfl⟩
/-- the first place of n where f and g differ, or -1 -/
def mmis (f g : Nat → Int32) (n : Nat) (r : Int32) : Prop := (r = -1 ∧ ∀ j, j < n → f j = g j) ∨ ∃ k, k < n ∧ r = nI k ∧ f k ≠ g k ∧ ∀ j, j < k → f j = g j
theorem c_J14_mismatch (l : Launch) (E : GE) (h : HV) {a1 a2 l1 l2 n1 n2 n : Nat} {f g : Nat → Int32} (hr1 : h a1 = some (l1, cBytes E n1 f)) (hr2 : h a2 = some (l2, cBytes E n2 g)) (hn : n ≤ 7) (hl1 : n ≤ n1) (hl2 : n ≤ n2) (hb1 : n1 ≤ 1000) (hb2 : n2 ≤ 1000) : Cg l E yJ14_mismatch cJ14_mismatch 4 (some .int) 0 0 0 [.ref a1, .ref a2, .int (nI n)] h (fun v h' => (∃ r, v = some (.int r) ∧ mmis f g n r) ∧ h = h') := by
  refine Cg.of (by first | exact plainFor_of_name (by decide) | decide +kernel) [some (.ref a1), some (.ref a2), some (.int (nI n)), none] (Nat.le_of_ble_eq_true rfl) rfl ?_
  intro p e s m args below meth c O
  refine g_iconst O dJ14_mismatch_0 (nI 0) rfl ?_
  refine g_istore_n O rfl dJ14_mismatch_1 rfl ?_
  refine g_iload_n O dJ14_mismatch_2 rfl ?_
  refine g_bipush O dJ14_mismatch_3 (nI 7) rfl ?_
  refine g_icmp_le O 49 dJ14_mismatch_5 (by decide) (fun hc => ?_) (fun hc => ?_)
  · refine Wg.L [some (.ref a1), some (.ref a2), some (.int (nI n)), some (.int (nI 0))] rfl ?_
    have loop : ∀ d i, i + d = n → (∀ j, j < i → f j = g j) → Wg p l e (rmG 0 0 0) s m args below meth c E (MQ below (gQ E (fun v h' => (∃ r, v = some (.int r) ∧ mmis f g n r) ∧ h = h')) args s 0 0 (gA E)) 49 [some (.ref a1), some (.ref a2), some (.int (nI n)), some (.int (nI i))] [] h 0 0 := by
      intro d
      induction d with
      | zero =>
        intro i hi hj
        refine g_iload_n O dJ14_mismatch_49 rfl ?_
        refine g_iload_n O dJ14_mismatch_50 rfl ?_
        refine g_icmp_ge O 71 dJ14_mismatch_51 (by decide) (fun hc => ?_) (fun hc => ?_)
        · refine g_iconst O dJ14_mismatch_71 (-1) rfl ?_
          exact g_iret O dJ14_mismatch_72 (by first | exact Nat.le_of_ble_eq_true rfl | omega) (by first | exact Nat.le_of_ble_eq_true rfl | omega) ⟨⟨_, rfl, Or.inl ⟨rfl, fun j hj2 => hj j (by omega)⟩⟩, rfl⟩
        · exact absurd (nI_le (by omega) (by omega)) hc
      | succ d ih =>
        intro i hi hj
        refine g_iload_n O dJ14_mismatch_49 rfl ?_
        refine g_iload_n O dJ14_mismatch_50 rfl ?_
        refine g_icmp_ge O 71 dJ14_mismatch_51 (by decide) (fun hc => ?_) (fun hc => ?_)
        · exact absurd ((nI_leI (by omega) (by omega)).mp hc) (by omega)
        · refine g_aload_n O dJ14_mismatch_54 rfl (by first | rfl | exact rf_ref _) ?_
          refine g_iload_n O dJ14_mismatch_55 rfl ?_
          refine g_bald O i rfl (by omega) (by omega) hr1 dJ14_mismatch_56 ?_
          refine g_aload_n O dJ14_mismatch_57 rfl (by first | rfl | exact rf_ref _) ?_
          refine g_iload_n O dJ14_mismatch_58 rfl ?_
          refine g_bald O i rfl (by omega) (by omega) hr2 dJ14_mismatch_59 ?_
          refine g_icmp_eq O 65 dJ14_mismatch_60 (by decide) (fun hc2 => ?_) (fun hc2 => ?_)
          · refine g_iinc O dJ14_mismatch_65 rfl (by first | rfl | exact rf_lok rfl) ?_
            refine g_goto O 49 dJ14_mismatch_68 (by decide) ?_
            refine Wg.L [some (.ref a1), some (.ref a2), some (.int (nI n)), some (.int (nI (i + 1)))] (by rw [← nI_1]; rfl) ?_
            exact ih (i + 1) (by omega) (fun j hj2 => by
              rcases Nat.lt_or_ge j i with z | z
              · exact hj j z
              · rw [show j = i by omega]; exact hc2)
          · refine g_iload_n O dJ14_mismatch_63 rfl ?_
            exact g_iret O dJ14_mismatch_64 (by first | exact Nat.le_of_ble_eq_true rfl | omega) (by first | exact Nat.le_of_ble_eq_true rfl | omega) ⟨⟨_, rfl, Or.inr ⟨i, by omega, rfl, hc2, hj⟩⟩, rfl⟩
    exact loop n 0 (by omega) (fun j hj => absurd hj (Nat.not_lt_zero _))
  · exact absurd (nI_le hn (by decide)) hc
/-- how two texts compare -/
def cmpW : List Nat → List Nat → Int
  | [], [] => 0
  | [], b :: t => -((b :: t).length : Int)
  | a :: s, [] => ((a :: s).length : Int)
  | a :: s, b :: t => if a = b then cmpW s t else (a : Int) - b
theorem cmpW_eq : ∀ (s t : List Nat) (n : Nat), n = min s.length t.length → (∀ j, j < n → s[j]? = t[j]?) → cmpW s t = (s.length : Int) - t.length
  | [], [], n, hn, h => by simp [cmpW]
  | [], b :: t, n, hn, h => by simp [cmpW]
  | a :: s, [], n, hn, h => by simp [cmpW]
  | a :: s, b :: t, n, hn, h => by
    have h0 := h 0 (by simp at hn; omega)
    simp at h0
    subst h0
    rw [cmpW, if_pos rfl, cmpW_eq s t (n - 1) (by simp at hn; omega) (fun j hj => by
      have := h (j + 1) (by omega)
      simpa using this)]
    simp
    omega
theorem cmpW_ne : ∀ (s t : List Nat) (k a b : Nat), s[k]? = some a → t[k]? = some b → a ≠ b → (∀ j, j < k → s[j]? = t[j]?) → cmpW s t = (a : Int) - b
  | [], t, k, a, b, h1, h2, hn, h => by simp at h1
  | x :: s, [], k, a, b, h1, h2, hn, h => by simp at h2
  | x :: s, y :: t, 0, a, b, h1, h2, hn, h => by
    simp at h1 h2
    subst h1; subst h2
    rw [cmpW, if_neg hn]
  | x :: s, y :: t, k + 1, a, b, h1, h2, hn, h => by
    have h0 := h 0 (by omega)
    simp at h0
    subst h0
    simp at h1 h2
    rw [cmpW, if_pos rfl]
    exact cmpW_ne s t k a b h1 h2 hn (fun j hj => by
      have := h (j + 1) (by omega)
      simpa using this)
theorem c_J18_compareTo_2 (l : Launch) (E : GE) (h : HV) {a1 a2 l1 l2 : Nat} {f g : Nat → Int32} {t1 t2 : List Nat} (hr1 : h a1 = some (l1, cBytes E t1.length f)) (hr2 : h a2 = some (l2, cBytes E t2.length g)) (hn : t1.length ≤ 7 ∨ t2.length ≤ 7) (hb1 : t1.length ≤ 1000) (hb2 : t2.length ≤ 1000) (hf : ∀ (j c : Nat), t1[j]? = some c → c < 128 ∧ f j = nI c) (hg : ∀ (j c : Nat), t2[j]? = some c → c < 128 ∧ g j = nI c) : Cg l E yJ18_compareTo_2 cJ18_compareTo_2 6 (some .int) 1 0 0 [.ref a1, .ref a2, .int (nI t1.length), .int (nI t2.length)] h (fun v h' => (∃ r : Int32, v = some (.int r) ∧ r.toInt = cmpW t1 t2) ∧ h = h') := by
  refine Cg.of (by first | exact plainFor_of_name (by decide) | decide +kernel) [some (.ref a1), some (.ref a2), some (.int (nI t1.length)), some (.int (nI t2.length)), none, none] (Nat.le_of_ble_eq_true rfl) rfl ?_
  intro p e s m args below meth c O
  refine g_iload_n O dJ18_compareTo_2_0 rfl ?_
  refine g_iload_n O dJ18_compareTo_2_1 rfl ?_
  refine g_callS O (n := 2) (c_J15_min l E h t1.length t2.length (by omega) (by omega)) rfl dJ18_compareTo_2_2 q884 q483 q57 q484 (by decide +kernel) rfl rfl (by first | decide | omega) (by decide) (by first | exact Nat.le_of_ble_eq_true rfl | omega) (by first | exact Nat.le_of_ble_eq_true rfl | omega) (by first | exact Nat.le_of_ble_eq_true rfl | omega) (fun v h1 hp => ?_)
  obtain ⟨rfl, rfl⟩ := hp
  have hmin : (if t2.length < t1.length then t2.length else t1.length) = min t1.length t2.length := by split <;> omega
  rw [hmin]
  refine g_istore O dJ18_compareTo_2_5 rfl ?_
  refine g_aload_n O dJ18_compareTo_2_7 rfl (by first | rfl | exact rf_ref _) ?_
  refine g_aload_n O dJ18_compareTo_2_8 rfl (by first | rfl | exact rf_ref _) ?_
  refine g_iload O dJ18_compareTo_2_9 rfl ?_
  refine g_callS O (n := 3) (c_J14_mismatch l E h (n := min t1.length t2.length) hr1 hr2 (by omega) (by omega) (by omega) hb1 hb2) rfl dJ18_compareTo_2_11 q885 q886 q56 q887 (by decide +kernel) rfl rfl (by first | decide | omega) (by decide) (by first | exact Nat.le_of_ble_eq_true rfl | omega) (by first | exact Nat.le_of_ble_eq_true rfl | omega) (by first | exact Nat.le_of_ble_eq_true rfl | omega) (fun v h1 hp => ?_)
  obtain ⟨⟨r, rfl, hm⟩, rfl⟩ := hp
  have same : ∀ j, j < min t1.length t2.length → f j = g j → t1[j]? = t2[j]? := fun j hj e => by
    have e1 : t1[j]? = some t1[j] := List.getElem?_eq_getElem (by omega)
    have e2 : t2[j]? = some t2[j] := List.getElem?_eq_getElem (by omega)
    obtain ⟨b1, q1⟩ := hf j _ e1
    obtain ⟨b2, q2⟩ := hg j _ e2
    rw [q1, q2] at e
    rw [e1, e2, (nI_eq (by omega) (by omega)).mp e]
  refine g_istore O dJ18_compareTo_2_14 rfl ?_
  refine g_iload O dJ18_compareTo_2_16 rfl ?_
  rcases hm with ⟨rfl, hm⟩ | ⟨k, hk, rfl, hne, hm⟩
  · refine g_if_ge O 27 dJ18_compareTo_2_18 (by decide) (fun hc => ?_) (fun hc => ?_)
    · exact absurd hc (by decide)
    · refine g_iload_n O dJ18_compareTo_2_21 rfl ?_
      refine g_iload_n O dJ18_compareTo_2_22 rfl ?_
      refine g_isub O dJ18_compareTo_2_23 ?_
      refine g_goto O 40 dJ18_compareTo_2_24 (by decide) ?_
      refine g_iret O dJ18_compareTo_2_40 (Nat.le_refl _) (Nat.le_refl _) ⟨⟨_, rfl, ?_⟩, rfl⟩
      rw [pk_sub_toInt (by omega) (by omega), cmpW_eq t1 t2 _ rfl (fun j hj => same j hj (hm j hj))]
  · have e1 : t1[k]? = some t1[k] := List.getElem?_eq_getElem (by omega)
    have e2 : t2[k]? = some t2[k] := List.getElem?_eq_getElem (by omega)
    obtain ⟨b1, q1⟩ := hf k _ e1
    obtain ⟨b2, q2⟩ := hg k _ e2
    refine g_if_ge O 27 dJ18_compareTo_2_18 (by decide) (fun hc => ?_) (fun hc => ?_)
    · refine g_aload_n O dJ18_compareTo_2_27 rfl (by first | rfl | exact rf_ref _) ?_
      refine g_iload O dJ18_compareTo_2_28 rfl ?_
      refine g_callS O (n := 2) (c_J18_getChar l E h hr1 (by omega) hb1 b1 q1) rfl dJ18_compareTo_2_30 q989 q990 q61 q991 (by decide +kernel) rfl rfl (by first | decide | omega) (by decide) (by first | exact Nat.le_of_ble_eq_true rfl | omega) (by first | exact Nat.le_of_ble_eq_true rfl | omega) (by first | exact Nat.le_of_ble_eq_true rfl | omega) (fun v h1 hp => ?_)
      obtain ⟨rfl, rfl⟩ := hp
      refine g_aload_n O dJ18_compareTo_2_33 rfl (by first | rfl | exact rf_ref _) ?_
      refine g_iload O dJ18_compareTo_2_34 rfl ?_
      refine g_callS O (n := 2) (c_J18_getChar l E h hr2 (by omega) hb2 b2 q2) rfl dJ18_compareTo_2_36 q989 q990 q61 q991 (by decide +kernel) rfl rfl (by first | decide | omega) (by decide) (by first | exact Nat.le_of_ble_eq_true rfl | omega) (by first | exact Nat.le_of_ble_eq_true rfl | omega) (by first | exact Nat.le_of_ble_eq_true rfl | omega) (fun v h1 hp => ?_)
      obtain ⟨rfl, rfl⟩ := hp
      refine g_isub O dJ18_compareTo_2_39 ?_
      refine g_iret O dJ18_compareTo_2_40 (Nat.le_refl _) (Nat.le_refl _) ⟨⟨_, rfl, ?_⟩, rfl⟩
      rw [pk_sub_toInt (by omega) (by omega), cmpW_ne t1 t2 k _ _ e1 e2 (fun z => hne (by rw [q1, q2, z])) (fun j hj => same j (by omega) (hm j hj))]
    · exact absurd (nI_pos' (by omega)) hc
theorem c_J18_compareTo (l : Launch) (E : GE) (h : HV) {a1 a2 l1 l2 : Nat} {f g : Nat → Int32} {t1 t2 : List Nat} (hr1 : h a1 = some (l1, cBytes E t1.length f)) (hr2 : h a2 = some (l2, cBytes E t2.length g)) (hn : t1.length ≤ 7 ∨ t2.length ≤ 7) (hb1 : t1.length ≤ 1000) (hb2 : t2.length ≤ 1000) (hf : ∀ (j c : Nat), t1[j]? = some c → c < 128 ∧ f j = nI c) (hg : ∀ (j c : Nat), t2[j]? = some c → c < 128 ∧ g j = nI c) : Cg l E yJ18_compareTo cJ18_compareTo 4 (some .int) 2 0 0 [.ref a1, .ref a2] h (fun v h' => (∃ r : Int32, v = some (.int r) ∧ r.toInt = cmpW t1 t2) ∧ h = h') := by
  refine Cg.of (by first | exact plainFor_of_name (by decide) | decide +kernel) [some (.ref a1), some (.ref a2), none, none] (Nat.le_of_ble_eq_true rfl) rfl ?_
  intro p e s m args below meth c O
  refine g_aload_n O dJ18_compareTo_0 rfl (by first | rfl | exact rf_ref _) ?_
  refine g_alen O 3 rfl hr1 dJ18_compareTo_1 ?_
  refine g_istore_n O rfl dJ18_compareTo_2 rfl ?_
  refine g_aload_n O dJ18_compareTo_3 rfl (by first | rfl | exact rf_ref _) ?_
  refine g_alen O 3 rfl hr2 dJ18_compareTo_4 ?_
  refine g_istore_n O rfl dJ18_compareTo_5 rfl ?_
  refine g_aload_n O dJ18_compareTo_6 rfl (by first | rfl | exact rf_ref _) ?_
  refine g_aload_n O dJ18_compareTo_7 rfl (by first | rfl | exact rf_ref _) ?_
  refine g_iload_n O dJ18_compareTo_8 rfl ?_
  refine g_iload_n O dJ18_compareTo_9 rfl ?_
  refine g_callS O (n := 4) (c_J18_compareTo_2 l E h hr1 hr2 hn hb1 hb2 hf hg) rfl dJ18_compareTo_10 q881 q882 q61 q883 (by decide +kernel) rfl rfl (by first | decide | omega) (by decide) (by first | exact Nat.le_of_ble_eq_true rfl | omega) (by first | exact Nat.le_of_ble_eq_true rfl | omega) (by first | exact Nat.le_of_ble_eq_true rfl | omega) (fun v h1 hp => ?_)
  obtain ⟨⟨r, rfl, hm⟩, rfl⟩ := hp
  exact g_iret O dJ18_compareTo_13 (by first | exact Nat.le_of_ble_eq_true rfl | omega) (by first | exact Nat.le_of_ble_eq_true rfl | omega) ⟨⟨r, rfl, hm⟩, rfl⟩
theorem c_J9_compareTo (l : Launch) (E : GE) (h : HV) {a1 a2 : Nat} {t1 t2 : List Nat} (hA1 : Str E h a1 t1) (hA2 : Str E h a2 t2) (hn : t1.length ≤ 7 ∨ t2.length ≤ 7) : Cg l E yJ9_compareTo cJ9_compareTo 5 (some .int) 3 0 0 [.ref a1, .ref a2] h (fun v h' => (∃ r : Int32, v = some (.int r) ∧ r.toInt = cmpW t1 t2) ∧ h = h') := by
  have hA1' := hA1
  have hA2' := hA2
  obtain ⟨arr1, f, u1, v1, h1, h2, h3, h4⟩ := hA1
  obtain ⟨arr2, g, u2, v2, k1, k2, k3, k4⟩ := hA2
  refine Cg.of (by first | exact plainFor_of_name (by decide) | decide +kernel) [some (.ref a1), some (.ref a2), none, none, none] (Nat.le_of_ble_eq_true rfl) rfl ?_
  intro p e s m args below meth c O
  refine g_aload_n O dJ9_compareTo_0 rfl (by first | rfl | exact rf_ref _) ?_
  refine g_get O 15 0 rfl h1 dJ9_compareTo_1 q664 rfl (by decide) rfl rfl ?_
  refine g_astore_n O rfl dJ9_compareTo_4 (by first | rfl | exact rf_ref _) (by first | rfl | exact rf_lst ⟨rfl, rfl⟩) ?_
  refine g_aload_n O dJ9_compareTo_5 rfl (by first | rfl | exact rf_ref _) ?_
  refine g_get O 15 0 rfl k1 dJ9_compareTo_6 q664 rfl (by decide) rfl rfl ?_
  refine g_astore_n O rfl dJ9_compareTo_9 (by first | rfl | exact rf_ref _) (by first | rfl | exact rf_lst ⟨rfl, rfl⟩) ?_
  refine g_aload_n O dJ9_compareTo_10 rfl (by first | rfl | exact rf_ref _) ?_
  refine g_callV O (n := 0) (c_J9_coder l E h hA1') rfl rfl h1 dJ9_compareTo_11 q388 q389 q390 q51 q391 rfl (by decide +kernel) rfl rfl (by first | decide | omega) (by decide) (by first | exact Nat.le_of_ble_eq_true rfl | omega) (by first | exact Nat.le_of_ble_eq_true rfl | omega) (by first | exact Nat.le_of_ble_eq_true rfl | omega) (fun v h1 hp => ?_)
  obtain ⟨rfl, rfl⟩ := hp
  refine g_istore O dJ9_compareTo_14 rfl ?_
  refine g_iload O dJ9_compareTo_16 rfl ?_
  refine g_aload_n O dJ9_compareTo_18 rfl (by first | rfl | exact rf_ref _) ?_
  refine g_callV O (n := 0) (c_J9_coder l E h hA2') rfl rfl k1 dJ9_compareTo_19 q388 q389 q390 q51 q391 rfl (by decide +kernel) rfl rfl (by first | decide | omega) (by decide) (by first | exact Nat.le_of_ble_eq_true rfl | omega) (by first | exact Nat.le_of_ble_eq_true rfl | omega) (by first | exact Nat.le_of_ble_eq_true rfl | omega) (fun v h1 hp => ?_)
  obtain ⟨rfl, rfl⟩ := hp
  refine g_icmp_ne O 44 dJ9_compareTo_22 (by decide) (fun hc => ?_) (fun hc => ?_)
  · exact absurd rfl hc
  · refine g_iload O dJ9_compareTo_25 rfl ?_
    refine g_if_ne O 38 dJ9_compareTo_27 (by decide) (fun hc2 => ?_) (fun hc2 => ?_)
    · exact absurd rfl hc2
    · refine g_aload_n O dJ9_compareTo_30 rfl (by first | rfl | exact rf_ref _) ?_
      refine g_aload_n O dJ9_compareTo_31 rfl (by first | rfl | exact rf_ref _) ?_
      refine g_callS O (n := 2) (c_J18_compareTo l E h h2 k2 hn h3 k3 h4 k4) rfl dJ9_compareTo_32 q878 q879 q61 q880 (by decide +kernel) rfl rfl (by first | decide | omega) (by decide) (by first | exact Nat.le_of_ble_eq_true rfl | omega) (by first | exact Nat.le_of_ble_eq_true rfl | omega) (by first | exact Nat.le_of_ble_eq_true rfl | omega) (fun v h1 hp => ?_)
      obtain ⟨⟨r, rfl, hm⟩, rfl⟩ := hp
      refine g_goto O 43 dJ9_compareTo_35 (by decide) ?_
      exact g_iret O dJ9_compareTo_43 (by first | exact Nat.le_of_ble_eq_true rfl | omega) (by first | exact Nat.le_of_ble_eq_true rfl | omega) ⟨⟨r, rfl, hm⟩, rfl⟩
theorem c_J9_compareTo_2 (l : Launch) (E : GE) (h : HV) {a1 a2 : Nat} {t1 t2 : List Nat} (hA1 : Str E h a1 t1) (hA2 : Str E h a2 t2) (hn : t1.length ≤ 7 ∨ t2.length ≤ 7) : Cg l E yJ9_compareTo_2 cJ9_compareTo_2 2 (some .int) 4 0 0 [.ref a1, .ref a2] h (fun v h' => (∃ r : Int32, v = some (.int r) ∧ r.toInt = cmpW t1 t2) ∧ h = h') := by
  have hA1' := hA1
  have hA2' := hA2
  obtain ⟨arr1, f, u1, v1, h1, h2, h3, h4⟩ := hA1
  obtain ⟨arr2, g, u2, v2, k1, k2, k3, k4⟩ := hA2
  refine Cg.of (by first | exact plainFor_of_name (by decide) | decide +kernel) [some (.ref a1), some (.ref a2)] (Nat.le_of_ble_eq_true rfl) rfl ?_
  intro p e s m args below meth c O
  refine g_aload_n O dJ9_compareTo_2_0 rfl (by first | rfl | exact rf_ref _) ?_
  refine g_aload_n O dJ9_compareTo_2_1 rfl (by first | rfl | exact rf_ref _) ?_
  refine g_castS O rfl k1 q1028 dJ9_compareTo_2_2 ?_
  refine g_callV O (n := 1) (c_J9_compareTo l E h hA1' hA2' hn) rfl rfl h1 dJ9_compareTo_2_5 q1029 q875 q876 q51 q877 rfl (by decide +kernel) rfl rfl (by first | decide | omega) (by decide) (by first | exact Nat.le_of_ble_eq_true rfl | omega) (by first | exact Nat.le_of_ble_eq_true rfl | omega) (by first | exact Nat.le_of_ble_eq_true rfl | omega) (fun v h1 hp => ?_)
  obtain ⟨⟨r, rfl, hm⟩, rfl⟩ := hp
  exact g_iret O dJ9_compareTo_2_8 (by first | exact Nat.le_of_ble_eq_true rfl | omega) (by first | exact Nat.le_of_ble_eq_true rfl | omega) ⟨⟨r, rfl, hm⟩, rfl⟩
