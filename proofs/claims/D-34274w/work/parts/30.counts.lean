set_option maxRecDepth 100000
/-! counts: endings of words, rows of counts -/
theorem Str.at {E : GE} {h : HV} {a i : Nat} {w : List Nat} (hA : Str E h a w) (hi : i < w.length) : ∃ c, w[i]? = some c ∧ c < 128 := by
  obtain ⟨arr, f, u, v, h1, h2, h3, h4⟩ := hA
  exact ⟨w[i], List.getElem?_eq_getElem hi, (h4 i _ (List.getElem?_eq_getElem hi)).1⟩
/-- a word's ending of k letters -/
def ends (w : List Nat) (k : Nat) : List Nat := w.drop (w.length - k)
theorem ends_len {w : List Nat} {k : Nat} (h : k ≤ w.length) : (ends w k).length = k := by unfold ends; rw [List.length_drop]; omega
theorem c_X1_endingOf (l : Launch) (E : GE) (h : HV) {b k : Nat} {w : List Nat} (hw : Str E h b w) (hl : w.length ≤ 7) (hk : k ≤ w.length) : Cg l E yX1_endingOf cX1_endingOf 4 (some (.object "java/lang/String")) 6 4 31 [.ref b, .int (nI k)] h (fun v h' => ∃ a, v = some (.ref a) ∧ Str E h' a (ends w k) ∧ Fr [50] h h') := by
  obtain ⟨fs, hcell⟩ := hw.cell
  refine Cg.of (by first | exact plainFor_of_name (by decide) | decide +kernel) [some (.ref b), some (.int (nI k)), none, none] (Nat.le_of_ble_eq_true rfl) rfl ?_
  intro p e s m args below meth c O
  refine g_new O 50 14 [.null, .int 0, .int 0, .int 0] rfl dX1_endingOf_0 q412 q413 q54 rfl (by first | exact Nat.le_of_ble_eq_true rfl | omega) (by first | exact Nat.le_of_ble_eq_true rfl | omega) (fun sb hsb => ?_)
  refine g_dup O dX1_endingOf_3 rfl ?_
  refine g_callI O (n := 0) (c_J12_init l E _ hup_self (by decide)) rfl dX1_endingOf_4 q414 q415 q54 q416 rfl (by decide +kernel) rfl rfl (by first | decide | omega) (by decide) (by first | exact Nat.le_of_ble_eq_true rfl | omega) (Nat.le_of_ble_eq_true rfl) (Nat.le_of_ble_eq_true rfl) (fun v h1 hp => ?_)
  obtain ⟨rfl, hS, hE⟩ := hp
  have hF : Fr [50] h h1 := fun x c hx hn => hE x c ((hup_ne (hv_neN hx hsb)).trans hx) (fun z => by
    rw [List.mem_singleton.mp z, hsb] at hx
    cases hx)
  have loop : ∀ d j hh, j + d = k → SB E hh 50 sb (ends w j) → Fr [50] h hh → Wg p l e (rmG 6 4 31) s m args below meth c E (MQ below (gQ E (fun v h' => ∃ a, v = some (.ref a) ∧ Str E h' a (ends w k) ∧ Fr [50] h h')) args s 4 31 (gA E)) 10 [some (.ref b), some (.int (nI k)), some (.ref sb), some (.int (nI j))] [] hh 2 20 := by
    intro d
    induction d with
    | zero =>
      intro j hh hj hS hF
      obtain rfl : j = k := by omega
      have hlen := ends_len hk
      have hS' := hS
      obtain ⟨arr, f, hc1, -⟩ := hS'
      refine g_iload_n O dX1_endingOf_10 rfl ?_
      refine g_iload_n O dX1_endingOf_11 rfl ?_
      refine g_icmp_ge O 39 dX1_endingOf_12 (by decide) (fun hc => ?_) (fun hc => ?_)
      · refine g_aload_n O dX1_endingOf_39 rfl (by first | rfl | exact rf_ref _) ?_
        refine g_callV O (n := 0) (c_J12_toString l E hh hS (by omega)) rfl rfl hc1 dX1_endingOf_40 q572 q573 q574 q54 q575 rfl (by decide +kernel) rfl rfl (by first | decide | omega) (by decide) (by first | exact Nat.le_of_ble_eq_true rfl | omega) (Nat.le_of_ble_eq_true rfl) (by omega) (fun v h2 hp => ?_)
        obtain ⟨a, rfl, -, hA, hF2⟩ := hp
        refine g_aret O dX1_endingOf_43 (by first | exact Or.inl ⟨_, rfl⟩ | exact Or.inr ⟨_, rfl⟩) (by first | exact Or.inl rfl | exact Or.inr ⟨_, rfl⟩) (Nat.le_of_ble_eq_true rfl) (by omega) ⟨a, rfl, hA, hF.tr (hF2.mono (fun x hx => by cases hx))⟩
      · exact absurd (Int32.le_refl _) hc
    | succ d ih =>
      intro j hh hj hS hF
      have hlen := ends_len (w := w) (k := j) (by omega)
      have hS' := hS
      obtain ⟨arr, f, hc1, -⟩ := hS'
      have hwh := hw.fr hF (by decide)
      have hcellh := hF _ _ hcell (show 0 ∉ [50] by decide)
      refine g_iload_n O dX1_endingOf_10 rfl ?_
      refine g_iload_n O dX1_endingOf_11 rfl ?_
      refine g_icmp_ge O 39 dX1_endingOf_12 (by decide) (fun hc => ?_) (fun hc => ?_)
      · exact absurd ((nI_leI (by omega) (by omega)).mp hc) (by omega)
      · refine g_aload_n O dX1_endingOf_15 rfl (by first | rfl | exact rf_ref _) ?_
        refine g_iconst O dX1_endingOf_16 (nI 0) rfl ?_
        refine g_aload_n O dX1_endingOf_17 rfl (by first | rfl | exact rf_ref _) ?_
        refine g_aload_n O dX1_endingOf_18 rfl (by first | rfl | exact rf_ref _) ?_
        refine g_callV O (n := 0) (c_J9_length l E hh hwh) rfl rfl hcellh dX1_endingOf_19 q384 q385 q386 q51 q387 rfl (by decide +kernel) rfl rfl (by first | decide | omega) (by decide) (by first | exact Nat.le_of_ble_eq_true rfl | omega) (by first | exact Nat.le_of_ble_eq_true rfl | omega) (by first | exact Nat.le_of_ble_eq_true rfl | omega) (fun v h1 hp => ?_)
        obtain ⟨rfl, rfl⟩ := hp
        refine g_iconst O dX1_endingOf_22 (nI 1) rfl ?_
        refine g_isub O dX1_endingOf_23 ?_
        rw [pk_sub (by omega : 1 ≤ w.length)]
        refine g_iload_n O dX1_endingOf_24 rfl ?_
        refine g_isub O dX1_endingOf_25 ?_
        rw [pk_sub (by omega : j ≤ w.length - 1)]
        obtain ⟨ch, hch, hch2⟩ := hwh.at (i := w.length - 1 - j) (by omega)
        refine g_callV O (n := 1) (c_J9_charAt l E _ hwh hch) rfl rfl hcellh dX1_endingOf_26 q1147 q1148 q1149 q51 q1150 rfl (by decide +kernel) rfl rfl (by first | decide | omega) (by decide) (by first | exact Nat.le_of_ble_eq_true rfl | omega) (by first | exact Nat.le_of_ble_eq_true rfl | omega) (by first | exact Nat.le_of_ble_eq_true rfl | omega) (fun v h1 hp => ?_)
        obtain ⟨rfl, rfl⟩ := hp
        refine g_callV O (n := 2) (c_J12_insert l E _ (k := ch) hS (by decide) (by omega) hch2) rfl rfl hc1 dX1_endingOf_29 q1162 q1163 q1164 q54 q1165 rfl (by decide +kernel) rfl rfl (by first | decide | omega) (by decide) (by first | exact Nat.le_of_ble_eq_true rfl | omega) (by first | exact Nat.le_of_ble_eq_true rfl | omega) (by first | exact Nat.le_of_ble_eq_true rfl | omega) (fun v h1 hp => ?_)
        obtain ⟨rfl, hS2, hF2⟩ := hp
        refine g_pop O dX1_endingOf_32 rfl ?_
        refine g_iinc O dX1_endingOf_33 rfl (by first | rfl | exact rf_lok rfl) ?_
        refine g_goto O 10 dX1_endingOf_36 (by decide) ?_
        refine Wg.L [some (.ref b), some (.int (nI k)), some (.ref sb), some (.int (nI (j + 1)))] (by rw [← nI_1]; rfl) ?_
        refine ih (j + 1) _ (by omega) ?_ (hF.tr hF2)
        have e : ends w (j + 1) = ch :: ends w j := by
          unfold ends
          have h1 : w.length - (j + 1) < w.length := by omega
          rw [List.drop_eq_getElem_cons h1]
          have h2 : w.length - (j + 1) = w.length - 1 - j := by omega
          have h3 : w.length - (j + 1) + 1 = w.length - j := by omega
          rw [h3]
          congr 1
          have h4 : w[w.length - 1 - j]? = some w[w.length - (j + 1)] := by rw [← h2]; exact List.getElem?_eq_getElem h1
          rw [h4] at hch
          exact Option.some.inj hch
        rw [e]
        exact hS2
  refine g_astore_n O rfl dX1_endingOf_7 (by first | rfl | exact rf_ref _) (by first | rfl | exact rf_lst ⟨rfl, rfl⟩) ?_
  refine g_iconst O dX1_endingOf_8 (nI 0) rfl ?_
  refine g_istore_n O rfl dX1_endingOf_9 rfl ?_
  exact loop k 0 h1 (by omega) (by show SB E h1 50 sb (w.drop (w.length - 0)); rw [List.drop_of_length_le (by omega)]; exact hS) hF
theorem TM.cell {E : GE} {h : HV} {lab t : Nat} {f : List Nat → Option Nat} (T : TM E h lab t f) : ∃ root sz mo, h t = some (lab, cMap root sz mo) := by
  obtain ⟨il, K, V, W, lf, rt, pa, co, root, sz, mo, TT, -⟩ := T
  exact ⟨root, sz, mo, TT.1⟩
/-- rows of counts (ci: the class; a: the object, its map's and its rows' labels lm, lr; cnt: the counts) -/
def CO (E : GE) (h : HV) (ci la a lm lr : Nat) (cnt : List Nat → Nat → Nat) : Prop :=
  ∃ (t : Nat) (f : List Nat → Option Nat), h a = some (la, .inr (ci, [.ref t])) ∧ TM E h lm t f ∧ (∀ w r, f w = some r → ∃ row, h r = some (lr, cInts E 5 row) ∧ ∀ j, j < 5 → row j = nI (cnt w j)) ∧ (∀ w, f w = none → ∀ j, j < 5 → cnt w j = 0) ∧ (∀ w1 w2 r, f w1 = some r → f w2 = some r → w1 = w2)
theorem CO.fr {E : GE} {h h' : HV} {ci la a lm lr : Nat} {cnt : List Nat → Nat → Nat} {S : List Nat} (F : Fr S h h') (h0 : 0 ∉ S) (h1 : la ∉ S) (h2 : lm ∉ S) (h3 : lr ∉ S) (C : CO E h ci la a lm lr cnt) : CO E h' ci la a lm lr cnt := by
  obtain ⟨t, f, c1, c2, c3, c4, c5⟩ := C
  exact ⟨t, f, F _ _ c1 h1, c2.fr F h0 h2, fun w r e => (c3 w r e).imp (fun row z => ⟨F _ _ z.1 h3, z.2⟩), c4, c5⟩
abbrev byI (up : Bool) : Int32 := if up then nI 1 else -1
abbrev byN (up : Bool) (n : Nat) : Nat := if up then n + 1 else n - 1
theorem nI_by {up : Bool} {n : Nat} (h : up = false → 0 < n) : nI n + byI up = nI (byN up n) := by
  cases up
  · obtain ⟨k, rfl⟩ : ∃ k, n = k + 1 := ⟨n - 1, by have := h rfl; omega⟩
    show nI (k + 1) + -1 = nI k
    rw [← nI_add]
    show nI k + nI 1 + -1 = nI k
    rw [Int32.add_assoc]
    show nI k + 0 = nI k
    rw [Int32.add_zero]
  · exact nI_add n 1
/-- the counts, one of them moved -/
def cby (cnt : List Nat → Nat → Nat) (up : Bool) (w : List Nat) (tag : Nat) : List Nat → Nat → Nat := fun w' j => if w' = w ∧ j = tag then byN up (cnt w' j) else cnt w' j
theorem c_X2_note_W (l : Launch) (E : GE) (h : HV) {la a lm lr b tag : Nat} {w : List Nat} {cnt : List Nat → Nat → Nat} (up : Bool) (h1 : lm ≠ 0) (h2 : lr ≠ 0) (h3 : lm ≠ lr) (h4 : la ≠ lm) (h5 : la ≠ lr) (hC : CO E h 1 la a lm lr cnt) (hw : Str E h b w) (hl : w.length ≤ 7) (ht : tag < 5) (hpos : up = false → 0 < cnt w tag) : Cg l E yX2_note cX2_note 5 none 9 2 11 [.ref a, .ref b, .int (nI tag), .int (byI up)] h (fun v h' => v = none ∧ CO E h' 1 la a lm lr (cby cnt up w tag) ∧ Fr [lm, lr] h h') := by
  obtain ⟨t, f, c1, c2, c3, c4, c5⟩ := hC
  obtain ⟨root, sz, mo, hcell⟩ := c2.cell
  refine Cg.of (by first | exact plainFor_of_name (by decide) | decide +kernel) [some (.ref a), some (.ref b), some (.int (nI tag)), some (.int (byI up)), none] (Nat.le_of_ble_eq_true rfl) rfl ?_
  intro p e s m args below meth c O
  have tail : ∀ (h2 : HV) (f2 : List Nat → Option Nat) (r : Nat), h2 a = some (la, .inr (1, [.ref t])) → TM E h2 lm t f2 → f2 w = some r → (∀ w r, f2 w = some r → ∃ row, h2 r = some (lr, cInts E 5 row) ∧ ∀ j, j < 5 → row j = nI (cnt w j)) → (∀ w, f2 w = none → ∀ j, j < 5 → cnt w j = 0) → (∀ w1 w2 r, f2 w1 = some r → f2 w2 = some r → w1 = w2) → Fr [lm, lr] h h2 → Wg p l e (rmG 9 2 11) s m args below meth c E (MQ below (gQ E (fun v h' => v = none ∧ CO E h' 1 la a lm lr (cby cnt up w tag) ∧ Fr [lm, lr] h h')) args s 2 11 (gA E)) 34 [some (.ref a), some (.ref b), some (.int (nI tag)), some (.int (byI up)), some (.ref r)] [] h2 2 11 := by
    intro h2 f2 r k1 k2 k3 k4 k5 k6 k7
    obtain ⟨row, hr, hrow⟩ := k4 w r k3
    refine g_aload O dX2_note_34 rfl (by first | rfl | exact rf_ref _) ?_
    refine g_iload_n O dX2_note_36 rfl ?_
    refine g_dup2 O dX2_note_37 rfl rfl ?_
    refine g_iald O tag rfl ht (by decide) hr dX2_note_38 ?_
    refine g_iload_n O dX2_note_39 rfl ?_
    rw [hrow tag ht]
    refine g_iadd O dX2_note_40 ?_
    rw [nI_by hpos]
    refine g_iast O tag rfl ht (by decide) hr (by assumption) dX2_note_41 ?_
    have F : Fr [lr] h2 (hup _ r (lr, cInts E 5 (upd row tag (nI (byN up (cnt w tag)))))) := Fr.rf.up hr (List.mem_singleton.mpr rfl)
    have n0 : 0 ∉ [lr] := fun z => (by assumption : lr ≠ 0) (List.mem_singleton.mp z).symm
    refine g_vret O dX2_note_42 (Nat.le_refl _) (Nat.le_refl _) ⟨rfl, ⟨t, f2, F _ _ k1 (fun z => h5 (List.mem_singleton.mp z)), k2.fr F n0 (fun z => h3 (List.mem_singleton.mp z)), ?_, ?_, k6⟩, k7.tr (F.mono (fun x hx => by rw [List.mem_singleton.mp hx]; simp))⟩
    · intro w' r' e
      by_cases hww : w' = w
      · subst hww
        obtain rfl : r = r' := Option.some.inj (k3.symm.trans e)
        refine ⟨_, hup_self, fun j hj => ?_⟩
        unfold cby upd
        by_cases hjt : j = tag
        · subst hjt
          rw [if_pos rfl, if_pos ⟨rfl, rfl⟩]
        · rw [if_neg hjt, if_neg (fun z => hjt z.2)]
          exact hrow j hj
      · obtain ⟨row', q1, q2⟩ := k4 w' r' e
        have hne : r' ≠ r := fun z => hww (k6 w' w r (z ▸ e) k3)
        refine ⟨row', (hup_ne hne).trans q1, fun j hj => ?_⟩
        unfold cby
        rw [if_neg (fun z => hww z.1)]
        exact q2 j hj
    · intro w' e j hj
      have hww : w' ≠ w := fun z => by rw [z, k3] at e; cases e
      unfold cby
      rw [if_neg (fun z => hww z.1)]
      exact k5 w' e j hj
  refine g_aload_n O dX2_note_0 rfl (by first | rfl | exact rf_ref _) ?_
  refine g_get O 1 0 rfl c1 dX2_note_1 q133 rfl (by decide) rfl rfl ?_
  refine g_aload_n O dX2_note_4 rfl (by first | rfl | exact rf_ref _) ?_
  refine g_callV O (n := 1) (c_J1_get l E h c2 hw hl) rfl rfl hcell dX2_note_5 q836 q837 q838 q41 q839 rfl (by decide +kernel) rfl rfl (by first | decide | omega) (by decide) (by first | exact Nat.le_of_ble_eq_true rfl | omega) (by first | exact Nat.le_of_ble_eq_true rfl | omega) (by first | exact Nat.le_of_ble_eq_true rfl | omega) (fun v h1 hp => ?_)
  obtain ⟨rfl, rfl⟩ := hp
  cases hf : f w with
  | some r =>
    obtain ⟨row, hr, hrow⟩ := c3 w r hf
    refine g_castA O (by assumption) hr (g_nmI O) q1062 dX2_note_8 ?_
    refine g_astore O dX2_note_11 (by first | rfl | exact rf_ref _) (by first | rfl | exact rf_lst ⟨rfl, rfl⟩) ?_
    refine g_aload O dX2_note_13 rfl (by first | rfl | exact rf_ref _) ?_
    refine g_ifnonnull O 34 dX2_note_15 (by decide) rfl (fun hc => ?_) (fun hc_a hc => ?_)
    · cases hc
    · refine Wg.wide 2 11 (Nat.le_of_ble_eq_true rfl) (Nat.le_of_ble_eq_true rfl) ?_
      exact tail _ f r c1 c2 hf c3 c4 c5 Fr.rf
  | none =>
    refine g_castNull O q1062 dX2_note_8 ?_
    refine g_astore O dX2_note_11 (by first | rfl | exact rf_ref _) (by first | rfl | exact rf_lst ⟨rfl, rfl⟩) ?_
    refine g_aload O dX2_note_13 rfl (by first | rfl | exact rf_ref _) ?_
    refine g_ifnonnull O 34 dX2_note_15 (by decide) rfl (fun hc => ?_) (fun hc_a hc => ?_)
    · refine g_iconst O dX2_note_18 (nI 5) rfl ?_
      refine g_newa O lr 0 5 (5, .inl (fun _ => 0)) dX2_note_19 rfl rfl rfl (by decide) q176 (by first | exact Nat.le_of_ble_eq_true rfl | omega) (by first | exact Nat.le_of_ble_eq_true rfl | omega) (fun r hr => ?_)
      refine g_astore O dX2_note_21 (by first | rfl | exact rf_ref _) (by first | rfl | exact rf_lst ⟨rfl, rfl⟩) ?_
      refine g_aload_n O dX2_note_23 rfl (by first | rfl | exact rf_ref _) ?_
      refine g_get O 1 0 rfl ((hup_ne (hv_neN c1 hr)).trans c1) dX2_note_24 q133 rfl (by decide) rfl rfl ?_
      have F1 : Fr [] h (hup h r (lr, cInts E 5 (fun _ => 0))) := Fr.rf.new hr
      have c2' := c2.fr F1 (by simp) (by simp)
      obtain ⟨root, sz, mo, hcell⟩ := c2'.cell
      refine g_aload_n O dX2_note_27 rfl (by first | rfl | exact rf_ref _) ?_
      refine g_aload O dX2_note_28 rfl (by first | rfl | exact rf_ref _) ?_
      refine g_callV O (n := 2) (c_J1_put l E _ (v := r) (by assumption) c2' (hw.fr F1 (by simp)) hl hf) rfl rfl hcell dX2_note_30 q1063 q1064 q1065 q41 q1066 rfl (by decide +kernel) rfl rfl (by first | decide | omega) (by decide) (by first | exact Nat.le_of_ble_eq_true rfl | omega) (Nat.le_of_ble_eq_true rfl) (Nat.le_of_ble_eq_true rfl) (fun v h2 hp => ?_)
      obtain ⟨rfl, hT, F2⟩ := hp
      refine g_pop O dX2_note_33 rfl ?_
      have hr2 : h2 r = some (lr, cInts E 5 (fun _ => 0)) := F2 _ _ hup_self (fun z => h3 (List.mem_singleton.mp z).symm)
      have F3 : Fr [lm] h h2 := (F1.mono (fun x hx => by cases hx)).tr F2
      refine tail h2 _ r (F3 _ _ c1 (fun z => h4 (List.mem_singleton.mp z))) hT (if_pos rfl) ?_ ?_ ?_ (F3.mono (fun x hx => by rw [List.mem_singleton.mp hx]; simp))
      · intro w' r' e
        have e : (if w' = w then some r else f w') = some r' := e
        by_cases hww : w' = w
        · rw [if_pos hww] at e
          obtain rfl : r = r' := Option.some.inj e
          exact ⟨_, hr2, fun j hj => by rw [hww, c4 w hf j hj, nI_0]⟩
        · rw [if_neg hww] at e
          obtain ⟨row, q1, q2⟩ := c3 w' r' e
          exact ⟨row, F3 _ _ q1 (fun z => h3 (List.mem_singleton.mp z).symm), q2⟩
      · intro w' e j hj
        have e : (if w' = w then some r else f w') = none := e
        by_cases hww : w' = w
        · rw [if_pos hww] at e; cases e
        · rw [if_neg hww] at e; exact c4 w' e j hj
      · intro w1 w2 r' e1 e2
        have e1 : (if w1 = w then some r else f w1) = some r' := e1
        have e2 : (if w2 = w then some r else f w2) = some r' := e2
        have old : ∀ w3, f w3 = some r → False := fun w3 z => by
          obtain ⟨row, q1, q2⟩ := c3 w3 r z
          rw [hr] at q1; cases q1
        by_cases hw1 : w1 = w
        · by_cases hw2 : w2 = w
          · rw [hw1, hw2]
          · rw [if_pos hw1] at e1; rw [if_neg hw2] at e2; cases e1; exact (old _ e2).elim
        · by_cases hw2 : w2 = w
          · rw [if_neg hw1] at e1; rw [if_pos hw2] at e2; cases e2; exact (old _ e1).elim
          · rw [if_neg hw1] at e1; rw [if_neg hw2] at e2; exact c5 _ _ _ e1 e2
    · cases hc
theorem c_X2_note_E (l : Launch) (E : GE) (h : HV) {la a lm lr b tag : Nat} {w : List Nat} {cnt : List Nat → Nat → Nat} (up : Bool) (h1 : lm ≠ 0) (h2 : lr ≠ 0) (h3 : lm ≠ lr) (h4 : la ≠ lm) (h5 : la ≠ lr) (hC : CO E h 2 la a lm lr cnt) (hw : Str E h b w) (hl : w.length ≤ 7) (ht : tag < 5) (hpos : up = false → 0 < cnt w tag) : Cg l E yX2_note cX2_note 5 none 9 2 11 [.ref a, .ref b, .int (nI tag), .int (byI up)] h (fun v h' => v = none ∧ CO E h' 2 la a lm lr (cby cnt up w tag) ∧ Fr [lm, lr] h h') := by
  obtain ⟨t, f, c1, c2, c3, c4, c5⟩ := hC
  obtain ⟨root, sz, mo, hcell⟩ := c2.cell
  refine Cg.of (by first | exact plainFor_of_name (by decide) | decide +kernel) [some (.ref a), some (.ref b), some (.int (nI tag)), some (.int (byI up)), none] (Nat.le_of_ble_eq_true rfl) rfl ?_
  intro p e s m args below meth c O
  have tail : ∀ (h2 : HV) (f2 : List Nat → Option Nat) (r : Nat), h2 a = some (la, .inr (2, [.ref t])) → TM E h2 lm t f2 → f2 w = some r → (∀ w r, f2 w = some r → ∃ row, h2 r = some (lr, cInts E 5 row) ∧ ∀ j, j < 5 → row j = nI (cnt w j)) → (∀ w, f2 w = none → ∀ j, j < 5 → cnt w j = 0) → (∀ w1 w2 r, f2 w1 = some r → f2 w2 = some r → w1 = w2) → Fr [lm, lr] h h2 → Wg p l e (rmG 9 2 11) s m args below meth c E (MQ below (gQ E (fun v h' => v = none ∧ CO E h' 2 la a lm lr (cby cnt up w tag) ∧ Fr [lm, lr] h h')) args s 2 11 (gA E)) 34 [some (.ref a), some (.ref b), some (.int (nI tag)), some (.int (byI up)), some (.ref r)] [] h2 2 11 := by
    intro h2 f2 r k1 k2 k3 k4 k5 k6 k7
    obtain ⟨row, hr, hrow⟩ := k4 w r k3
    refine g_aload O dX2_note_34 rfl (by first | rfl | exact rf_ref _) ?_
    refine g_iload_n O dX2_note_36 rfl ?_
    refine g_dup2 O dX2_note_37 rfl rfl ?_
    refine g_iald O tag rfl ht (by decide) hr dX2_note_38 ?_
    refine g_iload_n O dX2_note_39 rfl ?_
    rw [hrow tag ht]
    refine g_iadd O dX2_note_40 ?_
    rw [nI_by hpos]
    refine g_iast O tag rfl ht (by decide) hr (by assumption) dX2_note_41 ?_
    have F : Fr [lr] h2 (hup _ r (lr, cInts E 5 (upd row tag (nI (byN up (cnt w tag)))))) := Fr.rf.up hr (List.mem_singleton.mpr rfl)
    have n0 : 0 ∉ [lr] := fun z => (by assumption : lr ≠ 0) (List.mem_singleton.mp z).symm
    refine g_vret O dX2_note_42 (Nat.le_refl _) (Nat.le_refl _) ⟨rfl, ⟨t, f2, F _ _ k1 (fun z => h5 (List.mem_singleton.mp z)), k2.fr F n0 (fun z => h3 (List.mem_singleton.mp z)), ?_, ?_, k6⟩, k7.tr (F.mono (fun x hx => by rw [List.mem_singleton.mp hx]; simp))⟩
    · intro w' r' e
      by_cases hww : w' = w
      · subst hww
        obtain rfl : r = r' := Option.some.inj (k3.symm.trans e)
        refine ⟨_, hup_self, fun j hj => ?_⟩
        unfold cby upd
        by_cases hjt : j = tag
        · subst hjt
          rw [if_pos rfl, if_pos ⟨rfl, rfl⟩]
        · rw [if_neg hjt, if_neg (fun z => hjt z.2)]
          exact hrow j hj
      · obtain ⟨row', q1, q2⟩ := k4 w' r' e
        have hne : r' ≠ r := fun z => hww (k6 w' w r (z ▸ e) k3)
        refine ⟨row', (hup_ne hne).trans q1, fun j hj => ?_⟩
        unfold cby
        rw [if_neg (fun z => hww z.1)]
        exact q2 j hj
    · intro w' e j hj
      have hww : w' ≠ w := fun z => by rw [z, k3] at e; cases e
      unfold cby
      rw [if_neg (fun z => hww z.1)]
      exact k5 w' e j hj
  refine g_aload_n O dX2_note_0 rfl (by first | rfl | exact rf_ref _) ?_
  refine g_get O 2 0 rfl c1 dX2_note_1 q133 rfl (by decide) rfl rfl ?_
  refine g_aload_n O dX2_note_4 rfl (by first | rfl | exact rf_ref _) ?_
  refine g_callV O (n := 1) (c_J1_get l E h c2 hw hl) rfl rfl hcell dX2_note_5 q836 q837 q838 q41 q839 rfl (by decide +kernel) rfl rfl (by first | decide | omega) (by decide) (by first | exact Nat.le_of_ble_eq_true rfl | omega) (by first | exact Nat.le_of_ble_eq_true rfl | omega) (by first | exact Nat.le_of_ble_eq_true rfl | omega) (fun v h1 hp => ?_)
  obtain ⟨rfl, rfl⟩ := hp
  cases hf : f w with
  | some r =>
    obtain ⟨row, hr, hrow⟩ := c3 w r hf
    refine g_castA O (by assumption) hr (g_nmI O) q1062 dX2_note_8 ?_
    refine g_astore O dX2_note_11 (by first | rfl | exact rf_ref _) (by first | rfl | exact rf_lst ⟨rfl, rfl⟩) ?_
    refine g_aload O dX2_note_13 rfl (by first | rfl | exact rf_ref _) ?_
    refine g_ifnonnull O 34 dX2_note_15 (by decide) rfl (fun hc => ?_) (fun hc_a hc => ?_)
    · cases hc
    · refine Wg.wide 2 11 (Nat.le_of_ble_eq_true rfl) (Nat.le_of_ble_eq_true rfl) ?_
      exact tail _ f r c1 c2 hf c3 c4 c5 Fr.rf
  | none =>
    refine g_castNull O q1062 dX2_note_8 ?_
    refine g_astore O dX2_note_11 (by first | rfl | exact rf_ref _) (by first | rfl | exact rf_lst ⟨rfl, rfl⟩) ?_
    refine g_aload O dX2_note_13 rfl (by first | rfl | exact rf_ref _) ?_
    refine g_ifnonnull O 34 dX2_note_15 (by decide) rfl (fun hc => ?_) (fun hc_a hc => ?_)
    · refine g_iconst O dX2_note_18 (nI 5) rfl ?_
      refine g_newa O lr 0 5 (5, .inl (fun _ => 0)) dX2_note_19 rfl rfl rfl (by decide) q176 (by first | exact Nat.le_of_ble_eq_true rfl | omega) (by first | exact Nat.le_of_ble_eq_true rfl | omega) (fun r hr => ?_)
      refine g_astore O dX2_note_21 (by first | rfl | exact rf_ref _) (by first | rfl | exact rf_lst ⟨rfl, rfl⟩) ?_
      refine g_aload_n O dX2_note_23 rfl (by first | rfl | exact rf_ref _) ?_
      refine g_get O 2 0 rfl ((hup_ne (hv_neN c1 hr)).trans c1) dX2_note_24 q133 rfl (by decide) rfl rfl ?_
      have F1 : Fr [] h (hup h r (lr, cInts E 5 (fun _ => 0))) := Fr.rf.new hr
      have c2' := c2.fr F1 (by simp) (by simp)
      obtain ⟨root, sz, mo, hcell⟩ := c2'.cell
      refine g_aload_n O dX2_note_27 rfl (by first | rfl | exact rf_ref _) ?_
      refine g_aload O dX2_note_28 rfl (by first | rfl | exact rf_ref _) ?_
      refine g_callV O (n := 2) (c_J1_put l E _ (v := r) (by assumption) c2' (hw.fr F1 (by simp)) hl hf) rfl rfl hcell dX2_note_30 q1063 q1064 q1065 q41 q1066 rfl (by decide +kernel) rfl rfl (by first | decide | omega) (by decide) (by first | exact Nat.le_of_ble_eq_true rfl | omega) (Nat.le_of_ble_eq_true rfl) (Nat.le_of_ble_eq_true rfl) (fun v h2 hp => ?_)
      obtain ⟨rfl, hT, F2⟩ := hp
      refine g_pop O dX2_note_33 rfl ?_
      have hr2 : h2 r = some (lr, cInts E 5 (fun _ => 0)) := F2 _ _ hup_self (fun z => h3 (List.mem_singleton.mp z).symm)
      have F3 : Fr [lm] h h2 := (F1.mono (fun x hx => by cases hx)).tr F2
      refine tail h2 _ r (F3 _ _ c1 (fun z => h4 (List.mem_singleton.mp z))) hT (if_pos rfl) ?_ ?_ ?_ (F3.mono (fun x hx => by rw [List.mem_singleton.mp hx]; simp))
      · intro w' r' e
        have e : (if w' = w then some r else f w') = some r' := e
        by_cases hww : w' = w
        · rw [if_pos hww] at e
          obtain rfl : r = r' := Option.some.inj e
          exact ⟨_, hr2, fun j hj => by rw [hww, c4 w hf j hj, nI_0]⟩
        · rw [if_neg hww] at e
          obtain ⟨row, q1, q2⟩ := c3 w' r' e
          exact ⟨row, F3 _ _ q1 (fun z => h3 (List.mem_singleton.mp z).symm), q2⟩
      · intro w' e j hj
        have e : (if w' = w then some r else f w') = none := e
        by_cases hww : w' = w
        · rw [if_pos hww] at e; cases e
        · rw [if_neg hww] at e; exact c4 w' e j hj
      · intro w1 w2 r' e1 e2
        have e1 : (if w1 = w then some r else f w1) = some r' := e1
        have e2 : (if w2 = w then some r else f w2) = some r' := e2
        have old : ∀ w3, f w3 = some r → False := fun w3 z => by
          obtain ⟨row, q1, q2⟩ := c3 w3 r z
          rw [hr] at q1; cases q1
        by_cases hw1 : w1 = w
        · by_cases hw2 : w2 = w
          · rw [hw1, hw2]
          · rw [if_pos hw1] at e1; rw [if_neg hw2] at e2; cases e1; exact (old _ e2).elim
        · by_cases hw2 : w2 = w
          · rw [if_neg hw1] at e1; rw [if_pos hw2] at e2; cases e2; exact (old _ e1).elim
          · rw [if_neg hw1] at e1; rw [if_neg hw2] at e2; exact c5 _ _ _ e1 e2
    · cases hc
