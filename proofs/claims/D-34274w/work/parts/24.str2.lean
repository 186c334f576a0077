set_option maxRecDepth 100000
/-! a String out of a StringBuilder -/
theorem c_J11_getValue (l : Launch) (E : GE) (h : HV) {lab a arr k : Nat} (h1 : h a = some (lab, cSB arr k)) : Cg l E yJ11_getValue cJ11_getValue 1 (some (.array .byte)) 0 0 0 [.ref a] h (fun v h' => v = some (.ref arr) ∧ h = h') := by
  refine Cg.of (by first | exact plainFor_of_name (by decide) | decide +kernel) [some (.ref a)] (Nat.le_of_ble_eq_true rfl) rfl ?_
  intro p e s m args below meth c O
  refine g_aload_n O dJ11_getValue_0 rfl (by first | rfl | exact rf_ref _) ?_
  refine g_get O 14 0 rfl h1 dJ11_getValue_1 q429 rfl (by decide) rfl rfl ?_
  exact g_aret O dJ11_getValue_4 (by first | exact Or.inl ⟨_, rfl⟩ | exact Or.inr ⟨_, rfl⟩) (by first | exact Or.inl rfl | exact Or.inr ⟨_, rfl⟩) (by first | exact Nat.le_of_ble_eq_true rfl | omega) (by first | exact Nat.le_of_ble_eq_true rfl | omega) ⟨rfl, rfl⟩
theorem c_J11_length (l : Launch) (E : GE) (h : HV) {lab a arr k : Nat} (h1 : h a = some (lab, cSB arr k)) : Cg l E yJ11_length cJ11_length 1 (some .int) 0 0 0 [.ref a] h (fun v h' => v = some (.int (nI k)) ∧ h = h') := by
  refine Cg.of (by first | exact plainFor_of_name (by decide) | decide +kernel) [some (.ref a)] (Nat.le_of_ble_eq_true rfl) rfl ?_
  intro p e s m args below meth c O
  refine g_aload_n O dJ11_length_0 rfl (by first | rfl | exact rf_ref _) ?_
  refine g_get O 14 3 rfl h1 dJ11_length_1 q432 rfl (by decide) rfl rfl ?_
  exact g_iret O dJ11_length_4 (by first | exact Nat.le_of_ble_eq_true rfl | omega) (by first | exact Nat.le_of_ble_eq_true rfl | omega) ⟨rfl, rfl⟩
theorem c_J12_length (l : Launch) (E : GE) (h : HV) {lab a arr k : Nat} (h1 : h a = some (lab, cSB arr k)) : Cg l E yJ12_length cJ12_length 1 (some .int) 1 0 0 [.ref a] h (fun v h' => v = some (.int (nI k)) ∧ h = h') := by
  refine Cg.of (by first | exact plainFor_of_name (by decide) | decide +kernel) [some (.ref a)] (Nat.le_of_ble_eq_true rfl) rfl ?_
  intro p e s m args below meth c O
  refine g_aload_n O dJ12_length_0 rfl (by first | rfl | exact rf_ref _) ?_
  refine g_callSU O (n := 0) (c_J11_length l E h h1) rfl rfl h1 dJ12_length_1 (va_cwSU 0 O.ts (lw_SU q596 q592 q441 q591 q53 q597) rfl rfl rfl (by decide +kernel) (g_rm (by decide) (by decide))) rfl rfl (by first | exact Nat.le_of_ble_eq_true rfl | omega) (by first | exact Nat.le_of_ble_eq_true rfl | omega) (by first | exact Nat.le_of_ble_eq_true rfl | omega) (fun v h1 hp => ?_)
  obtain ⟨rfl, rfl⟩ := hp
  exact g_iret O dJ12_length_4 (by first | exact Nat.le_of_ble_eq_true rfl | omega) (by first | exact Nat.le_of_ble_eq_true rfl | omega) ⟨rfl, rfl⟩
theorem c_J16_checkLength (l : Launch) (E : GE) (h : HV) (i n : Nat) (hi : i ≤ n) (hn : n < 2 ^ 31) : Cg l E yJ16_checkLength cJ16_checkLength 2 none 0 0 0 [.int (nI i), .int (nI n)] h (fun v h' => v = none ∧ h = h') := by
  refine Cg.of (by first | exact plainFor_of_name (by decide) | decide +kernel) [some (.int (nI i)), some (.int (nI n))] (Nat.le_of_ble_eq_true rfl) rfl ?_
  intro p e s m args below meth c O
  refine g_iload_n O dJ16_checkLength_0 rfl ?_
  refine g_iload_n O dJ16_checkLength_1 rfl ?_
  refine g_icmp_ge O 37 dJ16_checkLength_2 (by decide) (fun hc => ?_) (fun hc => ?_)
  · exact g_vret O dJ16_checkLength_37 (by first | exact Nat.le_of_ble_eq_true rfl | omega) (by first | exact Nat.le_of_ble_eq_true rfl | omega) ⟨rfl, rfl⟩
  · exact absurd (nI_le hi hn) hc
theorem c_J16_copyOfRangeByte (l : Launch) (E : GE) (h : HV) {arr lab k : Nat} {f : Nat → Int32} (nl : Nat) (hnl : nl ≠ 0) (hr : h arr = some (lab, cBytes E 16 f)) (hk : k ≤ 16) (hf : ∀ j, j < k → fits .byte (.int (f j)) = true) : Cg l E yJ16_copyOfRangeByte cJ16_copyOfRangeByte 5 (some (.array .byte)) 1 1 k [.ref arr, .int (nI 0), .int (nI k)] h (fun v h' => ∃ (b : Nat) (g : Nat → Int32), v = some (.ref b) ∧ h b = none ∧ Ex [] h h' ∧ h' b = some (nl, cBytes E k g) ∧ ∀ j, j < k → g j = f j) := by
  refine Cg.of (by first | exact plainFor_of_name (by decide) | decide +kernel) [some (.ref arr), some (.int (nI 0)), some (.int (nI k)), none, none] (Nat.le_of_ble_eq_true rfl) rfl ?_
  intro p e s m args below meth c O
  refine g_iload_n O dJ16_copyOfRangeByte_0 rfl ?_
  refine g_iload_n O dJ16_copyOfRangeByte_1 rfl ?_
  refine g_callS O (n := 2) (c_J16_checkLength l E h 0 k (Nat.zero_le _) (by omega)) rfl dJ16_copyOfRangeByte_2 q605 q606 q58 q607 (by decide +kernel) rfl rfl (by first | decide | omega) (by decide) (by first | exact Nat.le_of_ble_eq_true rfl | omega) (by first | exact Nat.le_of_ble_eq_true rfl | omega) (by first | exact Nat.le_of_ble_eq_true rfl | omega) (fun v h1 hp => ?_)
  obtain ⟨rfl, rfl⟩ := hp
  refine g_iload_n O dJ16_copyOfRangeByte_5 rfl ?_
  refine g_iload_n O dJ16_copyOfRangeByte_6 rfl ?_
  refine g_isub O dJ16_copyOfRangeByte_7 ?_
  rw [pk_sub (Nat.zero_le k), Nat.sub_zero]
  refine g_istore_n O rfl dJ16_copyOfRangeByte_8 rfl ?_
  refine g_iload_n O dJ16_copyOfRangeByte_9 rfl ?_
  refine g_newa O nl 3 k (k, .inl (fun _ => 0)) dJ16_copyOfRangeByte_10 rfl rfl rfl (by omega) q208 (Nat.le_refl 1) (by omega) (fun b hb => ?_)
  have hab : arr ≠ b := hv_neN hr hb
  refine g_astore O dJ16_copyOfRangeByte_12 (by first | rfl | exact rf_ref _) (by first | rfl | exact rf_lst ⟨rfl, rfl⟩) ?_
  refine g_aload_n O dJ16_copyOfRangeByte_14 rfl (by first | rfl | exact rf_ref _) ?_
  refine g_iload_n O dJ16_copyOfRangeByte_15 rfl ?_
  refine g_aload O dJ16_copyOfRangeByte_16 rfl (by first | rfl | exact rf_ref _) ?_
  refine g_iconst O dJ16_copyOfRangeByte_18 (nI 0) rfl ?_
  refine g_aload_n O dJ16_copyOfRangeByte_19 rfl (by first | rfl | exact rf_ref _) ?_
  refine g_alen O 3 rfl ((hup_ne hab).trans hr) dJ16_copyOfRangeByte_20 ?_
  refine g_iload_n O dJ16_copyOfRangeByte_21 rfl ?_
  refine g_isub O dJ16_copyOfRangeByte_22 ?_
  rw [pk_sub (by decide : 0 ≤ 16), Nat.sub_zero]
  refine g_iload_n O dJ16_copyOfRangeByte_23 rfl ?_
  refine g_callS O (n := 2) (c_J15_min l E _ 16 k (by decide) (by omega)) rfl dJ16_copyOfRangeByte_24 q482 q483 q57 q484 (by decide +kernel) rfl rfl (by first | decide | omega) (by decide) (by first | exact Nat.le_of_ble_eq_true rfl | omega) (Nat.le_refl _) (by omega) (fun v h1 hp => ?_)
  obtain ⟨rfl, rfl⟩ := hp
  have hmin : (if k < 16 then k else 16) = k := by split <;> omega
  rw [hmin]
  refine g_acopyB O 0 0 k rfl rfl rfl ((hup_ne hab).trans hr) hup_self hnl (by omega) (by omega) (by omega) (by omega) (fun j hj => by rw [Nat.zero_add]; exact hf j hj) q485 rfl (Nat.le_refl 1) (Nat.le_of_ble_eq_true rfl) dJ16_copyOfRangeByte_27 ?_
  refine g_aload O dJ16_copyOfRangeByte_30 rfl (by first | rfl | exact rf_ref _) ?_
  refine g_aret O dJ16_copyOfRangeByte_32 (Or.inr ⟨_, rfl⟩) (Or.inr ⟨_, rfl⟩) (Nat.le_refl _) (by omega) ⟨b, _, rfl, hb, ?_, hup_self, fun j hj => ?_⟩
  · intro x c2 hx hn
    have n1 := hv_neN hx hb
    exact (hup_ne n1).trans ((hup_ne n1).trans hx)
  · unfold va_cpy
    rw [if_pos (by omega)]
    congr 1
    omega
theorem c_J16_copyOfRange (l : Launch) (E : GE) (h : HV) {arr lab k : Nat} {f : Nat → Int32} (nl : Nat) (hnl : nl ≠ 0) (hr : h arr = some (lab, cBytes E 16 f)) (hk : k < 16) (hf : ∀ j, j < k → fits .byte (.int (f j)) = true) : Cg l E yJ16_copyOfRange cJ16_copyOfRange 3 (some (.array .byte)) 2 1 k [.ref arr, .int (nI 0), .int (nI k)] h (fun v h' => ∃ (b : Nat) (g : Nat → Int32), v = some (.ref b) ∧ h b = none ∧ Ex [] h h' ∧ h' b = some (nl, cBytes E k g) ∧ ∀ j, j < k → g j = f j) := by
  refine Cg.of (by first | exact plainFor_of_name (by decide) | decide +kernel) [some (.ref arr), some (.int (nI 0)), some (.int (nI k))] (Nat.le_of_ble_eq_true rfl) rfl ?_
  intro p e s m args below meth c O
  refine g_iload_n O dJ16_copyOfRange_0 rfl ?_
  refine g_if_ne O 10 dJ16_copyOfRange_1 (by decide) (fun hc => ?_) (fun hc => ?_)
  · exact absurd rfl hc
  · refine g_iload_n O dJ16_copyOfRange_4 rfl ?_
    refine g_aload_n O dJ16_copyOfRange_5 rfl (by first | rfl | exact rf_ref _) ?_
    refine g_alen O 3 rfl hr dJ16_copyOfRange_6 ?_
    refine g_icmp_eq O 17 dJ16_copyOfRange_7 (by decide) (fun hc2 => ?_) (fun hc2 => ?_)
    · exact absurd ((nI_eq (by omega) (by decide)).mp hc2) (by omega)
    · refine g_aload_n O dJ16_copyOfRange_10 rfl (by first | rfl | exact rf_ref _) ?_
      refine g_iload_n O dJ16_copyOfRange_11 rfl ?_
      refine g_iload_n O dJ16_copyOfRange_12 rfl ?_
      refine g_callS O (n := 3) (c_J16_copyOfRangeByte l E h nl hnl hr (by omega) hf) rfl dJ16_copyOfRange_13 q602 q603 q58 q604 (by decide +kernel) rfl rfl (by first | decide | omega) (by decide) (by first | exact Nat.le_of_ble_eq_true rfl | omega) (Nat.le_refl _) (by omega) (fun v h1 hp => ?_)
      obtain ⟨b, g, rfl, e1, e2, e3, e4⟩ := hp
      exact g_aret O dJ16_copyOfRange_16 (by first | exact Or.inl ⟨_, rfl⟩ | exact Or.inr ⟨_, rfl⟩) (by first | exact Or.inl rfl | exact Or.inr ⟨_, rfl⟩) (Nat.le_refl _) (by omega) ⟨b, g, rfl, e1, e2, e3, e4⟩
theorem c_J9_init_2 (l : Launch) (E : GE) (h : HV) {a b la lb : Nat} {t : List Nat} (ha : h a = some (la, .inr (15, [.null, .int 0, .int 0, .int 0]))) (hm : la ≠ 0) (hB : SB E h lb b t) (ht : t.length < 16) : Cg l E yJ9_init_2 cJ9_init_2 5 none 3 1 t.length [.ref a, .ref b, .null] h (fun v h' => v = none ∧ ∃ (arr : Nat) (g : Nat → Int32), h arr = none ∧ h' a = some (la, .inr (15, [.ref arr, .int (nI 0), .int 0, .int 0])) ∧ h' arr = some (la, cBytes E t.length g) ∧ (∀ (j c : Nat), t[j]? = some c → c < 128 ∧ g j = nI c) ∧ Ex [a] h h') := by
  have hB' := hB
  obtain ⟨brr, f, h1, h2, h3, h4⟩ := hB
  have hab : b ≠ a := hv_ne h1 ha (by simp)
  have hbr : brr ≠ a := hv_ne h2 ha (by simp)
  refine Cg.of (by first | exact plainFor_of_name (by decide) | decide +kernel) [some (.ref a), some (.ref b), some .null, none, none] (Nat.le_of_ble_eq_true rfl) rfl ?_
  intro p e s m args below meth c O
  refine g_aload_n O dJ9_init_2_0 rfl (by first | rfl | exact rf_ref _) ?_
  refine g_objInit O rfl q584 q87 q88 dJ9_init_2_1 (by decide) (by first | exact Nat.le_of_ble_eq_true rfl | omega) ?_
  refine g_aload_n O dJ9_init_2_4 rfl (by first | rfl | exact rf_ref _) ?_
  refine g_callX O (n := 0) (c_J11_getValue l E h h1) rfl (ci := 14) rfl h1 dJ9_init_2_5 q585 q586 (O.ts _ q588) q53 q589 (by decide +kernel) rfl rfl (by first | decide | omega) (by decide) (by first | exact Nat.le_of_ble_eq_true rfl | omega) (by first | exact Nat.le_of_ble_eq_true rfl | omega) (by first | exact Nat.le_of_ble_eq_true rfl | omega) (fun v h1 hp => ?_)
  obtain ⟨rfl, rfl⟩ := hp
  refine g_astore_n O rfl dJ9_init_2_8 (by first | rfl | exact rf_ref _) (by first | rfl | exact rf_lst ⟨rfl, rfl⟩) ?_
  refine g_aload_n O dJ9_init_2_9 rfl (by first | rfl | exact rf_ref _) ?_
  refine g_callU O (c_J12_length l E h h1) rfl (ci := 14) rfl h1 dJ9_init_2_10 (x := ⟨"java/lang/AbstractStringBuilder", "length", "()I"⟩) (owner := "java/lang/AbstractStringBuilder") (va_cwO 0 O.ts (lw_O q590 q592 q591 q593 q594 q54 q595) rfl rfl rfl q597 (by decide +kernel) (g_rm (by decide) (by decide))) rfl rfl (Nat.le_of_ble_eq_true rfl) (Nat.le_of_ble_eq_true rfl) (Nat.zero_le _) (fun v h1_ hp => ?_)
  obtain ⟨rfl, rfl⟩ := hp
  refine g_istore O dJ9_init_2_13 rfl ?_
  refine g_aload_n O dJ9_init_2_15 rfl (by first | rfl | exact rf_ref _) ?_
  refine g_callX O (n := 0) (c_J11_isLatin1 l E h hB') rfl (ci := 14) rfl h1 dJ9_init_2_16 q598 q487 (O.ts _ q489) q53 q490 (by decide +kernel) rfl rfl (by first | decide | omega) (by decide) (by first | exact Nat.le_of_ble_eq_true rfl | omega) (by first | exact Nat.le_of_ble_eq_true rfl | omega) (by first | exact Nat.le_of_ble_eq_true rfl | omega) (fun v h1 hp => ?_)
  obtain ⟨rfl, rfl⟩ := hp
  refine g_if_eq O 41 dJ9_init_2_19 (by decide) (fun hc => ?_) (fun hc => ?_)
  · exact absurd hc (by decide)
  · have hfit : ∀ j, j < t.length → fits .byte (.int (f j)) = true := fun j hj => by
      have e1 : t[j]? = some t[j] := List.getElem?_eq_getElem hj
      obtain ⟨b1, b2⟩ := h4 j _ e1
      rw [b2]
      exact (byte_nI b1).2.2.2.2
    refine g_aload_n O dJ9_init_2_22 rfl (by first | rfl | exact rf_ref _) ?_
    refine g_iconst O dJ9_init_2_23 (nI 0) rfl ?_
    refine g_putF O 15 1 rfl ha hm dJ9_init_2_24 q665 rfl (by decide) rfl rfl rfl rfl (by first | exact Nat.le_of_ble_eq_true rfl | omega) ?_
    refine g_aload_n O dJ9_init_2_27 rfl (by first | rfl | exact rf_ref _) ?_
    refine g_aload_n O dJ9_init_2_28 rfl (by first | rfl | exact rf_ref _) ?_
    refine g_iconst O dJ9_init_2_29 (nI 0) rfl ?_
    refine g_iload O dJ9_init_2_30 rfl ?_
    refine g_callS O (n := 3) (c_J16_copyOfRange l E _ la hm ((hup_ne hbr).trans h2) ht hfit) rfl dJ9_init_2_32 q599 q600 q58 q601 (by decide +kernel) rfl rfl (by first | decide | omega) (by decide) (by first | exact Nat.le_of_ble_eq_true rfl | omega) (Nat.le_refl _) (by omega) (fun v h9 hp => ?_)
    obtain ⟨arr, g, rfl, e1, e2, e3, e4⟩ := hp
    have ea : h9 a = some (la, .inr (15, [.null, .int (nI 0), .int 0, .int 0])) := e2 a _ hup_self (by simp)
    have hna : a ≠ arr := hv_neN (hup_self) e1
    refine g_putF O 15 0 rfl ea hm dJ9_init_2_35 q664 rfl (by decide) rfl rfl rfl rfl (by first | exact Nat.le_of_ble_eq_true rfl | omega) ?_
    refine g_goto O 97 dJ9_init_2_38 (by decide) ?_
    refine g_vret O dJ9_init_2_97 (Nat.le_refl _) (by omega) ⟨rfl, arr, g, ?_, hup_self, (hup_ne hna.symm).trans e3, fun j c2 hj => ?_, ?_⟩
    · rw [hup_ne hna.symm] at e1
      exact e1
    · have hlt : j < t.length := (List.getElem?_eq_some_iff.mp hj).1
      obtain ⟨b1, b2⟩ := h4 j c2 hj
      exact ⟨b1, by rw [e4 j hlt, b2]⟩
    · intro x c2 hx hn
      have hxa : x ≠ a := by simpa using hn
      rw [hup_ne hxa]
      exact e2 x c2 ((hup_ne hxa).trans hx) (by simp)
theorem c_J9_init (l : Launch) (E : GE) (h : HV) {a b la lb : Nat} {t : List Nat} (ha : h a = some (la, .inr (15, [.null, .int 0, .int 0, .int 0]))) (hm : la ≠ 0) (hB : SB E h lb b t) (ht : t.length < 16) : Cg l E yJ9_init cJ9_init 2 none 4 1 t.length [.ref a, .ref b] h (fun v h' => v = none ∧ ∃ (arr : Nat) (g : Nat → Int32), h arr = none ∧ h' a = some (la, .inr (15, [.ref arr, .int (nI 0), .int 0, .int 0])) ∧ h' arr = some (la, cBytes E t.length g) ∧ (∀ (j c : Nat), t[j]? = some c → c < 128 ∧ g j = nI c) ∧ Ex [a] h h') := by
  refine Cg.of (by first | exact plainFor_of_name (by decide) | decide +kernel) [some (.ref a), some (.ref b)] (Nat.le_of_ble_eq_true rfl) rfl ?_
  intro p e s m args below meth c O
  refine g_aload_n O dJ9_init_0 rfl (by first | rfl | exact rf_ref _) ?_
  refine g_aload_n O dJ9_init_1 rfl (by first | rfl | exact rf_ref _) ?_
  refine g_null O dJ9_init_2 ?_
  refine g_callI O (n := 2) (c_J9_init_2 l E h ha hm hB ht) rfl dJ9_init_3 q581 q582 q51 q583 rfl (by decide +kernel) rfl rfl (by first | decide | omega) (by decide) (by first | exact Nat.le_of_ble_eq_true rfl | omega) (Nat.le_refl _) (by omega) (fun v h1 hp => ?_)
  obtain ⟨rfl, e1⟩ := hp
  exact g_vret O dJ9_init_6 (Nat.le_refl _) (by omega) ⟨rfl, e1⟩
/-- cells get the label 0: they are never written from here on -/
def hzero (h : HV) (l : List Nat) : HV := fun b => if b ∈ l then (h b).map (fun c => (0, c.2)) else h b
theorem hzero_in {h : HV} {l : List Nat} {b : Nat} {c : Nat × va_E} (hb : h b = some c) (m : b ∈ l) : hzero h l b = some (0, c.2) := by
  unfold hzero
  rw [if_pos m, hb]
  rfl
theorem hzero_out {h : HV} {l : List Nat} {b : Nat} (m : b ∉ l) : hzero h l b = h b := if_neg m
theorem hzero_lab (h : HV) (l : List Nat) : ∀ (a : Nat) (c : Nat × va_E), hzero h l a = some c → ∃ lb, h a = some (lb, c.2) ∧ (lb = 0 → c.1 = 0) := by
  intro a c hc
  unfold hzero at hc
  split at hc
  · cases hv : h a with
    | none => rw [hv] at hc; cases hc
    | some d =>
      rw [hv] at hc
      cases hc
      exact ⟨d.1, rfl, fun _ => rfl⟩
  · exact ⟨c.1, hc, fun z => z⟩
/-- toString(): a new String -/
theorem c_J12_toString (l : Launch) (E : GE) (h : HV) {b lb : Nat} {t : List Nat} (hB : SB E h lb b t) (ht : t.length < 16) : Cg l E yJ12_toString cJ12_toString 1 (some (.object "java/lang/String")) 5 2 (4 + t.length) [.ref b] h (fun v h' => ∃ a, v = some (.ref a) ∧ h a = none ∧ Str E h' a t ∧ Fr [] h h') := by
  have hB' := hB
  obtain ⟨brr, f, h1, h2, h3, h4⟩ := hB
  refine Cg.of (by first | exact plainFor_of_name (by decide) | decide +kernel) [some (.ref b)] (Nat.le_of_ble_eq_true rfl) rfl ?_
  intro p e s m args below meth c O
  refine g_new O 1 15 [.null, .int 0, .int 0, .int 0] rfl dJ12_toString_0 q576 q577 q51 rfl (by decide) (by omega) (fun a ha => ?_)
  have hB2 : SB E (hup h a (1, .inr (15, [.null, .int 0, .int 0, .int 0]))) lb b t := ⟨brr, f, (hup_ne (hv_neN h1 ha)).trans h1, (hup_ne (hv_neN h2 ha)).trans h2, h3, h4⟩
  refine g_dup O dJ12_toString_3 rfl ?_
  refine g_aload_n O dJ12_toString_4 rfl (by first | rfl | exact rf_ref _) ?_
  refine g_callI O (n := 1) (c_J9_init l E _ hup_self (by decide) hB2 ht) rfl dJ12_toString_5 q578 q579 q51 q580 rfl (by decide +kernel) rfl rfl (by first | decide | omega) (by decide) (by first | exact Nat.le_of_ble_eq_true rfl | omega) (by decide) (by omega) (fun v h9 hp => ?_)
  obtain ⟨rfl, arr, g, e1, e2, e3, e4, e5⟩ := hp
  have hna : arr ≠ a := fun z => by rw [z, hup_self] at e1; cases e1
  rw [hup_ne hna] at e1
  refine Wg.label (hzero h9 [a, arr]) (hzero_lab _ _) ?_
  refine g_aret O dJ12_toString_8 (Or.inl ⟨_, rfl⟩) (Or.inr ⟨_, rfl⟩) (by decide) (by omega) ⟨a, rfl, ha, ⟨arr, g, _, _, hzero_in e2 (by simp), hzero_in e3 (by simp), by omega, e4⟩, ?_⟩
  intro x c2 hx hn
  have n1 := hv_neN hx ha
  have n2 := hv_neN hx e1
  rw [hzero_out (by simp [n1, n2])]
  exact e5 x c2 ((hup_ne n1).trans hx) (by simp [n1])
