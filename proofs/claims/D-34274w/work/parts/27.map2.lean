set_option maxRecDepth 100000
/-! TreeMap.fixAfterInsertion (printed by tools/gen_fix.py) -/
theorem plug_of {il m : List Nat} {cs : List (Bool × Nat × List Nat)} (h : il = plug cs m) (hn : il.Nodup) : (∀ b, b ∈ m ++ cel cs → b ∈ il) ∧ (m ++ cel cs).Nodup := by
  subst h
  have := plug_perm cs m
  exact ⟨fun b hb => this.mem_iff.mpr hb, this.nodup_iff.mp hn⟩
theorem nod3r {l1 l2 l3 k : List Nat} {p r : Nat} (h : (l1 ++ r :: l2 ++ p :: l3 ++ k).Nodup) :
    p ≠ r ∧ (∀ b ∈ l1, b ≠ r ∧ b ≠ p ∧ b ∉ l2 ∧ b ∉ l3 ∧ b ∉ k) ∧ (∀ b ∈ l2, b ≠ r ∧ b ≠ p ∧ b ∉ l1 ∧ b ∉ l3 ∧ b ∉ k) ∧ (∀ b ∈ l3, b ≠ r ∧ b ≠ p ∧ b ∉ l1 ∧ b ∉ l2 ∧ b ∉ k) := by
  have h' : (l1 ++ r :: (l2 ++ p :: l3) ++ k).Nodup := by simpa [List.append_assoc] using h
  have n := nod3 h'
  exact ⟨Ne.symm n.1, n.2.1, n.2.2.1, n.2.2.2.1⟩
theorem forget2 {t x : Nat} {o : Option Value} : ∀ (i : Nat) (v : Value), ([some (.ref t), some (.ref x), none] : List (Option Value))[i]? = some (some v) → ([some (.ref t), some (.ref x), o] : List (Option Value))[i]? = some (some v)
  | 0, v, h => h
  | 1, v, h => h
  | 2, v, h => by cases h
  | n + 3, v, h => by cases h
theorem swapL {M ls k : List Nat} {P : Nat} (h : (M ++ (P :: ls ++ k)).Nodup) : (ls ++ P :: M ++ k).Nodup := by
  have e : (ls ++ P :: M).Perm (M ++ P :: ls) := List.perm_middle.trans ((List.perm_append_comm.cons P).trans List.perm_middle.symm)
  have e2 : (ls ++ P :: M ++ k).Perm (M ++ (P :: ls ++ k)) := by
    have := e.append_right k
    rw [List.append_assoc M] at this
    exact this
  exact e2.nodup_iff.mpr h
theorem nodx {l1 l2 k : List Nat} {x : Nat} (h : (l1 ++ x :: l2 ++ k).Nodup) : ∀ b, b ∈ l1 ++ l2 ∨ b ∈ k → b ≠ x := by
  intro b hb z
  subst z
  simp only [List.nodup_append, List.nodup_cons, List.mem_append, List.mem_cons] at h
  obtain ⟨⟨a1, ⟨a2, a3⟩, a4⟩, a5, a6⟩ := h
  rcases hb with hb | hb
  · rcases List.mem_append.mp hb with hb | hb
    · exact a4 b hb b (Or.inl rfl) rfl
    · exact a2 hb
  · exact a6 b (Or.inr (Or.inl rfl)) b hb rfl
theorem nodP {M ls ls2 : List Nat} {d d2 : Bool} {P G : Nat} {cs2 : List (Bool × Nat × List Nat)} (h : (M ++ cel ((d, P, ls) :: (d2, G, ls2) :: cs2)).Nodup) : ∀ b, b ∈ ls2 → b ≠ P := by
  intro b hb z
  subst z
  simp only [cel, List.nodup_append, List.nodup_cons, List.mem_append, List.mem_cons, List.cons_append] at h
  exact h.2.1.1 (Or.inr (Or.inr (Or.inl hb)))
theorem c_J1_fixAfterInsertion (l : Launch) (E : GE) (h : HV) {lab t x0 : Nat} {il m1 m2 : List Nat} {K V : Nat → Nat} {lf0 rt0 pa0 : Nat → Option Nat} {co0 : Nat → Bool} {root0 : Option Nat} {sz mo : Int32} {cs0 : List (Bool × Nat × List Nat)} (ht : t ∉ il) (hlab : lab ≠ 0) (hN : il.Nodup) (hC0 : Cx lf0 rt0 pa0 root0 cs0 (some x0) (pa0 x0)) (s1 : Tr lf0 rt0 pa0 (lf0 x0) (some x0) m1) (s2 : Tr lf0 rt0 pa0 (rt0 x0) (some x0) m2) (hil0 : il = plug cs0 (m1 ++ x0 :: m2)) (hb0 : ∀ r, root0 = some r → r ≠ x0 → co0 r = true) : Cg l E yJ1_fixAfterInsertion cJ1_fixAfterInsertion 3 none 1 0 0 [.ref t, .ref x0] (ov h lab t il K V lf0 rt0 pa0 co0 root0 sz mo) (fun v h' => v = none ∧ ∃ (lf' rt' pa' : Nat → Option Nat) (co' : Nat → Bool) (root' : Option Nat), Tr lf' rt' pa' root' none il ∧ (∀ r, root' = some r → co' r = true) ∧ ov h lab t il K V lf' rt' pa' co' root' sz mo = h') := by
  have hx0 : x0 ∈ il := (plug_of hil0 hN).1 x0 (by simp)
  refine Cg.of (by first | exact plainFor_of_name (by decide) | decide +kernel) [some (.ref t), some (.ref x0), none] (Nat.le_of_ble_eq_true rfl) rfl ?_
  intro p e s m args below meth c O
  refine g_aload_n O dJ1_fixAfterInsertion_0 rfl (by first | rfl | exact rf_ref _) ?_
  refine g_iconst O dJ1_fixAfterInsertion_1 (nI 0) rfl ?_
  refine g_put O 4 5 rfl (ov_e ht hx0) hlab dJ1_fixAfterInsertion_2 q1094 rfl (by decide) rfl rfl rfl (by first | exact Nat.le_of_ble_eq_true rfl | omega) ?_
  refine Wg.H _ (ov_co (y := false) ht hx0) ?_
  have done : ∀ (lf rt pa : Nat → Option Nat) (co : Nat → Bool) (root : Option Nat), Tr lf rt pa root none il → ∀ x : Nat, Wg p l e (rmG 1 0 0) s m args below meth c E (MQ below (gQ E (fun v h' => v = none ∧ ∃ (lf' rt' pa' : Nat → Option Nat) (co' : Nat → Bool) (root' : Option Nat), Tr lf' rt' pa' root' none il ∧ (∀ r, root' = some r → co' r = true) ∧ ov h lab t il K V lf' rt' pa' co' root' sz mo = h')) args s 0 0 (gA E)) 258 [some (.ref t), some (.ref x), none] [] (ov h lab t il K V lf rt pa co root sz mo) 0 0 := by
    intro lf rt pa co root tR x
    rcases tR.inv with ⟨rfl, z⟩ | ⟨r, l1, l2, rfl, -⟩
    · rw [z] at hx0
      cases hx0
    · refine g_aload_n O dJ1_fixAfterInsertion_258 rfl (by first | rfl | exact rf_ref _) ?_
      refine g_get O 3 3 rfl ov_t dJ1_fixAfterInsertion_259 q111 rfl (by decide) rfl rfl ?_
      refine g_iconst O dJ1_fixAfterInsertion_262 (nI 1) rfl ?_
      refine g_put O 4 5 rfl (ov_e ht tR.top) hlab dJ1_fixAfterInsertion_263 q1094 rfl (by decide) rfl rfl rfl (by first | exact Nat.le_of_ble_eq_true rfl | omega) ?_
      refine Wg.H _ (ov_co (y := true) ht tR.top) ?_
      exact g_vret O dJ1_fixAfterInsertion_266 (by first | exact Nat.le_of_ble_eq_true rfl | omega) (by first | exact Nat.le_of_ble_eq_true rfl | omega) ⟨rfl, _, _, _, _, _, tR, fun r' hr' => by cases hr'; exact fu_self, rfl⟩
  -- x lies below the left child of G
  have tailtrue : ∀ (lf rt pa : Nat → Option Nat) (co : Nat → Bool) (root : Option Nat) (cs : List (Bool × Nat × List Nat)) (x P G : Nat) (A B D : List Nat), lf G = some P → pa P = some G → lf P = some x → pa x = some P → Cx lf rt pa root cs (some G) (pa G) → Tr lf rt pa (lf P) (some P) A → Tr lf rt pa (rt P) (some P) B → Tr lf rt pa (rt G) (some G) D → il = plug cs ((A ++ P :: B) ++ G :: D) → Wg p l e (rmG 1 0 0) s m args below meth c E (MQ below (gQ E (fun v h' => v = none ∧ ∃ (lf' rt' pa' : Nat → Option Nat) (co' : Nat → Bool) (root' : Option Nat), Tr lf' rt' pa' root' none il ∧ (∀ r, root' = some r → co' r = true) ∧ ov h lab t il K V lf' rt' pa' co' root' sz mo = h')) args s 0 0 (gA E)) 118 [some (.ref t), some (.ref x), none] [] (ov h lab t il K V lf rt pa co root sz mo) 0 0 := by
    intro lf rt pa co root cs x P G A B D hGP hpP hPx hpx hC tA tB tD hil
    obtain ⟨hmem, hnod⟩ := plug_of hil hN
    have hGi : G ∈ il := hmem G (by simp)
    have hPi : P ∈ il := hmem P (by simp)
    have hxA : x ∈ A := by rw [hPx] at tA; exact tA.top
    have hxi : x ∈ il := hmem x (by simp [hxA])
    have hnod2 : ((A ++ P :: B) ++ G :: D ++ cel cs).Nodup := hnod
    have nn := nod3r hnod2
    have hPG : G ≠ P := nn.1
    have hqg : ∀ g, pa G = some g → g ∈ il := fun g hg => by
      cases cs with
      | nil => have := hC.2; rw [hg] at this; cases this
      | cons k cs => obtain ⟨d0, a0, l0⟩ := k; have := hC.1; rw [hg] at this; cases this; exact hmem g (by simp [cel])
    refine g_aload_n O dJ1_fixAfterInsertion_118 rfl (by first | rfl | exact rf_ref _) ?_
    refine g_callS O (n := 1) (c_J1_parentOf l E _ (ov_e ht hxi)) rfl dJ1_fixAfterInsertion_119 q1116 q1117 q41 q1118 (by decide +kernel) rfl rfl (by first | decide | omega) (by decide) (by first | exact Nat.le_of_ble_eq_true rfl | omega) (by first | exact Nat.le_of_ble_eq_true rfl | omega) (by first | exact Nat.le_of_ble_eq_true rfl | omega) (fun v h1 hp => ?_)
    obtain ⟨rfl, rfl⟩ := hp
    rw [hpx]
    refine g_iconst O dJ1_fixAfterInsertion_122 (nI 1) rfl ?_
    refine g_callS O (n := 2) (c_J1_setColor l E _ true hlab (ov_e ht hPi)) rfl dJ1_fixAfterInsertion_123 q1128 q1129 q41 q1130 (by decide +kernel) rfl rfl (by first | decide | omega) (by decide) (by first | exact Nat.le_of_ble_eq_true rfl | omega) (by first | exact Nat.le_of_ble_eq_true rfl | omega) (by first | exact Nat.le_of_ble_eq_true rfl | omega) (fun v h1 hp => ?_)
    obtain ⟨rfl, rfl⟩ := hp
    refine Wg.H _ (ov_co (y := true) ht hPi) ?_
    refine g_aload_n O dJ1_fixAfterInsertion_126 rfl (by first | rfl | exact rf_ref _) ?_
    refine g_callS O (n := 1) (c_J1_parentOf l E _ (ov_e ht hxi)) rfl dJ1_fixAfterInsertion_127 q1116 q1117 q41 q1118 (by decide +kernel) rfl rfl (by first | decide | omega) (by decide) (by first | exact Nat.le_of_ble_eq_true rfl | omega) (by first | exact Nat.le_of_ble_eq_true rfl | omega) (by first | exact Nat.le_of_ble_eq_true rfl | omega) (fun v h1 hp => ?_)
    obtain ⟨rfl, rfl⟩ := hp
    rw [hpx]
    refine g_callS O (n := 1) (c_J1_parentOf l E _ (ov_e ht hPi)) rfl dJ1_fixAfterInsertion_130 q1116 q1117 q41 q1118 (by decide +kernel) rfl rfl (by first | decide | omega) (by decide) (by first | exact Nat.le_of_ble_eq_true rfl | omega) (by first | exact Nat.le_of_ble_eq_true rfl | omega) (by first | exact Nat.le_of_ble_eq_true rfl | omega) (fun v h1 hp => ?_)
    obtain ⟨rfl, rfl⟩ := hp
    rw [hpP]
    refine g_iconst O dJ1_fixAfterInsertion_133 (nI 0) rfl ?_
    refine g_callS O (n := 2) (c_J1_setColor l E _ false hlab (ov_e ht hGi)) rfl dJ1_fixAfterInsertion_134 q1128 q1129 q41 q1130 (by decide +kernel) rfl rfl (by first | decide | omega) (by decide) (by first | exact Nat.le_of_ble_eq_true rfl | omega) (by first | exact Nat.le_of_ble_eq_true rfl | omega) (by first | exact Nat.le_of_ble_eq_true rfl | omega) (fun v h1 hp => ?_)
    obtain ⟨rfl, rfl⟩ := hp
    refine Wg.H _ (ov_co (y := false) ht hGi) ?_
    refine g_aload_n O dJ1_fixAfterInsertion_137 rfl (by first | rfl | exact rf_ref _) ?_
    refine g_aload_n O dJ1_fixAfterInsertion_138 rfl (by first | rfl | exact rf_ref _) ?_
    refine g_callS O (n := 1) (c_J1_parentOf l E _ (ov_e ht hxi)) rfl dJ1_fixAfterInsertion_139 q1116 q1117 q41 q1118 (by decide +kernel) rfl rfl (by first | decide | omega) (by decide) (by first | exact Nat.le_of_ble_eq_true rfl | omega) (by first | exact Nat.le_of_ble_eq_true rfl | omega) (by first | exact Nat.le_of_ble_eq_true rfl | omega) (fun v h1 hp => ?_)
    obtain ⟨rfl, rfl⟩ := hp
    rw [hpx]
    refine g_callS O (n := 1) (c_J1_parentOf l E _ (ov_e ht hPi)) rfl dJ1_fixAfterInsertion_142 q1116 q1117 q41 q1118 (by decide +kernel) rfl rfl (by first | decide | omega) (by decide) (by first | exact Nat.le_of_ble_eq_true rfl | omega) (by first | exact Nat.le_of_ble_eq_true rfl | omega) (by first | exact Nat.le_of_ble_eq_true rfl | omega) (fun v h1 hp => ?_)
    obtain ⟨rfl, rfl⟩ := hp
    rw [hpP]
    refine g_callV O (n := 1) (c_J1_rotateRight l E h ht hlab hGi hGP hPi hPG (fun b hb => ⟨hmem b (by rw [hb] at tB; simp [tB.top]), (nn.2.2.1 b (by rw [hb] at tB; exact tB.top)).2.1⟩) hqg) rfl rfl ov_t dJ1_fixAfterInsertion_145 q1135 q1137 qs12 q41 q1138 rfl (by decide +kernel) rfl rfl (by first | decide | omega) (by decide) (by first | exact Nat.le_of_ble_eq_true rfl | omega) (by first | exact Nat.le_of_ble_eq_true rfl | omega) (by first | exact Nat.le_of_ble_eq_true rfl | omega) (fun v h1 hp => ?_)
    obtain ⟨rfl, rfl⟩ := hp
    obtain ⟨k1, k2, k3, k4, k5, k6, k7, k8, k9, k10⟩ := rotR hGP hnod2 hC rfl tA hpP tB tD
    have tG := Tr.node' k9 k8 k10 k3 k4
    have tP := Tr.node' k6 k5 k7 k2 tG
    have tX := k2
    rw [hPx] at tX
    obtain ⟨-, -, hpx', -⟩ := tX.at
    have tR := Cx.close cs k1 tP
    have hil2 : plug cs (A ++ P :: (B ++ G :: D)) = il := by rw [hil]; simp [List.append_assoc]
    rw [hil2] at tR
    refine g_goto O 5 dJ1_fixAfterInsertion_148 (by decide) ?_
    refine g_aload_n O dJ1_fixAfterInsertion_5 rfl (by first | rfl | exact rf_ref _) ?_
    refine g_ifnull O 258 dJ1_fixAfterInsertion_6 (by decide) rfl (fun hc => ?_) (fun hc_a hc => ?_)
    · cases hc
    · refine g_aload_n O dJ1_fixAfterInsertion_9 rfl (by first | rfl | exact rf_ref _) ?_
      refine g_aload_n O dJ1_fixAfterInsertion_10 rfl (by first | rfl | exact rf_ref _) ?_
      refine g_get O 3 3 rfl ov_t dJ1_fixAfterInsertion_11 q111 rfl (by decide) rfl rfl ?_
      refine g_acmp_eq O 258 dJ1_fixAfterInsertion_14 (by decide) rfl (rf_ref _) (fun hc2 => ?_) (fun hc2 => ?_)
      · exact done _ _ _ _ _ tR _
      · refine g_aload_n O dJ1_fixAfterInsertion_17 rfl (by first | rfl | exact rf_ref _) ?_
        refine g_get O 4 4 rfl (ov_e ht hxi) dJ1_fixAfterInsertion_18 q1092 rfl (by decide) rfl rfl ?_
        rw [← hpx']
        refine g_get O 4 5 rfl (ov_e ht hPi) dJ1_fixAfterInsertion_21 q1094 rfl (by decide) rfl rfl ?_
        have hco : fu (fu co P true) G false P = true := (fu_ne (Ne.symm hPG)).trans fu_self
        rw [hco]
        refine g_if_ne O 258 dJ1_fixAfterInsertion_24 (by decide) (fun hc3 => ?_) (fun hc3 => ?_)
        · exact done _ _ _ _ _ tR _
        · exact absurd hc3 (by decide)
  -- x lies below the right child of G
  have tailfalse : ∀ (lf rt pa : Nat → Option Nat) (co : Nat → Bool) (root : Option Nat) (cs : List (Bool × Nat × List Nat)) (x P G : Nat) (A B D : List Nat), rt G = some P → pa P = some G → rt P = some x → pa x = some P → Cx lf rt pa root cs (some G) (pa G) → Tr lf rt pa (rt P) (some P) A → Tr lf rt pa (lf P) (some P) B → Tr lf rt pa (lf G) (some G) D → il = plug cs (D ++ G :: (B ++ P :: A)) → Wg p l e (rmG 1 0 0) s m args below meth c E (MQ below (gQ E (fun v h' => v = none ∧ ∃ (lf' rt' pa' : Nat → Option Nat) (co' : Nat → Bool) (root' : Option Nat), Tr lf' rt' pa' root' none il ∧ (∀ r, root' = some r → co' r = true) ∧ ov h lab t il K V lf' rt' pa' co' root' sz mo = h')) args s 0 0 (gA E)) 225 [some (.ref t), some (.ref x), none] [] (ov h lab t il K V lf rt pa co root sz mo) 0 0 := by
    intro lf rt pa co root cs x P G A B D hGP hpP hPx hpx hC tA tB tD hil
    obtain ⟨hmem, hnod⟩ := plug_of hil hN
    have hGi : G ∈ il := hmem G (by simp)
    have hPi : P ∈ il := hmem P (by simp)
    have hxA : x ∈ A := by rw [hPx] at tA; exact tA.top
    have hxi : x ∈ il := hmem x (by simp [hxA])
    have hnod2 : (D ++ G :: (B ++ P :: A) ++ cel cs).Nodup := hnod
    have nn := nod3 hnod2
    have hPG : G ≠ P := nn.1
    have hqg : ∀ g, pa G = some g → g ∈ il := fun g hg => by
      cases cs with
      | nil => have := hC.2; rw [hg] at this; cases this
      | cons k cs => obtain ⟨d0, a0, l0⟩ := k; have := hC.1; rw [hg] at this; cases this; exact hmem g (by simp [cel])
    refine g_aload_n O dJ1_fixAfterInsertion_225 rfl (by first | rfl | exact rf_ref _) ?_
    refine g_callS O (n := 1) (c_J1_parentOf l E _ (ov_e ht hxi)) rfl dJ1_fixAfterInsertion_226 q1116 q1117 q41 q1118 (by decide +kernel) rfl rfl (by first | decide | omega) (by decide) (by first | exact Nat.le_of_ble_eq_true rfl | omega) (by first | exact Nat.le_of_ble_eq_true rfl | omega) (by first | exact Nat.le_of_ble_eq_true rfl | omega) (fun v h1 hp => ?_)
    obtain ⟨rfl, rfl⟩ := hp
    rw [hpx]
    refine g_iconst O dJ1_fixAfterInsertion_229 (nI 1) rfl ?_
    refine g_callS O (n := 2) (c_J1_setColor l E _ true hlab (ov_e ht hPi)) rfl dJ1_fixAfterInsertion_230 q1128 q1129 q41 q1130 (by decide +kernel) rfl rfl (by first | decide | omega) (by decide) (by first | exact Nat.le_of_ble_eq_true rfl | omega) (by first | exact Nat.le_of_ble_eq_true rfl | omega) (by first | exact Nat.le_of_ble_eq_true rfl | omega) (fun v h1 hp => ?_)
    obtain ⟨rfl, rfl⟩ := hp
    refine Wg.H _ (ov_co (y := true) ht hPi) ?_
    refine g_aload_n O dJ1_fixAfterInsertion_233 rfl (by first | rfl | exact rf_ref _) ?_
    refine g_callS O (n := 1) (c_J1_parentOf l E _ (ov_e ht hxi)) rfl dJ1_fixAfterInsertion_234 q1116 q1117 q41 q1118 (by decide +kernel) rfl rfl (by first | decide | omega) (by decide) (by first | exact Nat.le_of_ble_eq_true rfl | omega) (by first | exact Nat.le_of_ble_eq_true rfl | omega) (by first | exact Nat.le_of_ble_eq_true rfl | omega) (fun v h1 hp => ?_)
    obtain ⟨rfl, rfl⟩ := hp
    rw [hpx]
    refine g_callS O (n := 1) (c_J1_parentOf l E _ (ov_e ht hPi)) rfl dJ1_fixAfterInsertion_237 q1116 q1117 q41 q1118 (by decide +kernel) rfl rfl (by first | decide | omega) (by decide) (by first | exact Nat.le_of_ble_eq_true rfl | omega) (by first | exact Nat.le_of_ble_eq_true rfl | omega) (by first | exact Nat.le_of_ble_eq_true rfl | omega) (fun v h1 hp => ?_)
    obtain ⟨rfl, rfl⟩ := hp
    rw [hpP]
    refine g_iconst O dJ1_fixAfterInsertion_240 (nI 0) rfl ?_
    refine g_callS O (n := 2) (c_J1_setColor l E _ false hlab (ov_e ht hGi)) rfl dJ1_fixAfterInsertion_241 q1128 q1129 q41 q1130 (by decide +kernel) rfl rfl (by first | decide | omega) (by decide) (by first | exact Nat.le_of_ble_eq_true rfl | omega) (by first | exact Nat.le_of_ble_eq_true rfl | omega) (by first | exact Nat.le_of_ble_eq_true rfl | omega) (fun v h1 hp => ?_)
    obtain ⟨rfl, rfl⟩ := hp
    refine Wg.H _ (ov_co (y := false) ht hGi) ?_
    refine g_aload_n O dJ1_fixAfterInsertion_244 rfl (by first | rfl | exact rf_ref _) ?_
    refine g_aload_n O dJ1_fixAfterInsertion_245 rfl (by first | rfl | exact rf_ref _) ?_
    refine g_callS O (n := 1) (c_J1_parentOf l E _ (ov_e ht hxi)) rfl dJ1_fixAfterInsertion_246 q1116 q1117 q41 q1118 (by decide +kernel) rfl rfl (by first | decide | omega) (by decide) (by first | exact Nat.le_of_ble_eq_true rfl | omega) (by first | exact Nat.le_of_ble_eq_true rfl | omega) (by first | exact Nat.le_of_ble_eq_true rfl | omega) (fun v h1 hp => ?_)
    obtain ⟨rfl, rfl⟩ := hp
    rw [hpx]
    refine g_callS O (n := 1) (c_J1_parentOf l E _ (ov_e ht hPi)) rfl dJ1_fixAfterInsertion_249 q1116 q1117 q41 q1118 (by decide +kernel) rfl rfl (by first | decide | omega) (by decide) (by first | exact Nat.le_of_ble_eq_true rfl | omega) (by first | exact Nat.le_of_ble_eq_true rfl | omega) (by first | exact Nat.le_of_ble_eq_true rfl | omega) (fun v h1 hp => ?_)
    obtain ⟨rfl, rfl⟩ := hp
    rw [hpP]
    refine g_callV O (n := 1) (c_J1_rotateLeft l E h ht hlab hGi hGP hPi hPG (fun b hb => ⟨hmem b (by rw [hb] at tB; simp [tB.top]), (nn.2.2.1 b (by rw [hb] at tB; exact tB.top)).1⟩) hqg) rfl rfl ov_t dJ1_fixAfterInsertion_252 q1131 q1133 qs11 q41 q1134 rfl (by decide +kernel) rfl rfl (by first | decide | omega) (by decide) (by first | exact Nat.le_of_ble_eq_true rfl | omega) (by first | exact Nat.le_of_ble_eq_true rfl | omega) (by first | exact Nat.le_of_ble_eq_true rfl | omega) (fun v h1 hp => ?_)
    obtain ⟨rfl, rfl⟩ := hp
    obtain ⟨k1, k2, k3, k4, k5, k6, k7, k8, k9, k10⟩ := rotL hGP hnod2 hC rfl tD hpP tB tA
    have tG := Tr.node' k8 k9 k10 k2 k3
    have tP := Tr.node' k5 k6 k7 tG k4
    have tX := k4
    rw [hPx] at tX
    obtain ⟨-, -, hpx', -⟩ := tX.at
    have tR := Cx.close cs k1 tP
    have hil2 : plug cs ((D ++ G :: B) ++ P :: A) = il := by rw [hil]; simp [List.append_assoc]
    rw [hil2] at tR
    refine g_goto O 5 dJ1_fixAfterInsertion_255 (by decide) ?_
    refine g_aload_n O dJ1_fixAfterInsertion_5 rfl (by first | rfl | exact rf_ref _) ?_
    refine g_ifnull O 258 dJ1_fixAfterInsertion_6 (by decide) rfl (fun hc => ?_) (fun hc_a hc => ?_)
    · cases hc
    · refine g_aload_n O dJ1_fixAfterInsertion_9 rfl (by first | rfl | exact rf_ref _) ?_
      refine g_aload_n O dJ1_fixAfterInsertion_10 rfl (by first | rfl | exact rf_ref _) ?_
      refine g_get O 3 3 rfl ov_t dJ1_fixAfterInsertion_11 q111 rfl (by decide) rfl rfl ?_
      refine g_acmp_eq O 258 dJ1_fixAfterInsertion_14 (by decide) rfl (rf_ref _) (fun hc2 => ?_) (fun hc2 => ?_)
      · exact done _ _ _ _ _ tR _
      · refine g_aload_n O dJ1_fixAfterInsertion_17 rfl (by first | rfl | exact rf_ref _) ?_
        refine g_get O 4 4 rfl (ov_e ht hxi) dJ1_fixAfterInsertion_18 q1092 rfl (by decide) rfl rfl ?_
        rw [← hpx']
        refine g_get O 4 5 rfl (ov_e ht hPi) dJ1_fixAfterInsertion_21 q1094 rfl (by decide) rfl rfl ?_
        have hco : fu (fu co P true) G false P = true := (fu_ne (Ne.symm hPG)).trans fu_self
        rw [hco]
        refine g_if_ne O 258 dJ1_fixAfterInsertion_24 (by decide) (fun hc3 => ?_) (fun hc3 => ?_)
        · exact done _ _ _ _ _ tR _
        · exact absurd hc3 (by decide)
  have loop : ∀ n (cs : List (Bool × Nat × List Nat)), cs.length ≤ n → ∀ (lf rt pa : Nat → Option Nat) (co : Nat → Bool) (root : Option Nat) (x : Nat) (l1 l2 : List Nat), Cx lf rt pa root cs (some x) (pa x) → Tr lf rt pa (lf x) (some x) l1 → Tr lf rt pa (rt x) (some x) l2 → il = plug cs (l1 ++ x :: l2) → (∀ r, root = some r → r ≠ x → co r = true) → Wg p l e (rmG 1 0 0) s m args below meth c E (MQ below (gQ E (fun v h' => v = none ∧ ∃ (lf' rt' pa' : Nat → Option Nat) (co' : Nat → Bool) (root' : Option Nat), Tr lf' rt' pa' root' none il ∧ (∀ r, root' = some r → co' r = true) ∧ ov h lab t il K V lf' rt' pa' co' root' sz mo = h')) args s 0 0 (gA E)) 5 [some (.ref t), some (.ref x), none] [] (ov h lab t il K V lf rt pa co root sz mo) 0 0 := by
    intro n
    induction n with
    | zero => 
      intro cs hlen lf rt pa co root x l1 l2 hC t1 t2 hil hblack
      obtain rfl : cs = [] := List.length_eq_zero_iff.mp (by omega)
      have hxi : x ∈ il := (plug_of hil hN).1 x (by simp)
      have tR := Cx.close _ hC (Tr.node t1 t2)
      rw [← hil] at tR
      refine g_aload_n O dJ1_fixAfterInsertion_5 rfl (by first | rfl | exact rf_ref _) ?_
      refine g_ifnull O 258 dJ1_fixAfterInsertion_6 (by decide) rfl (fun hc => ?_) (fun hc_a hc => ?_)
      · cases hc
      · refine g_aload_n O dJ1_fixAfterInsertion_9 rfl (by first | rfl | exact rf_ref _) ?_
        refine g_aload_n O dJ1_fixAfterInsertion_10 rfl (by first | rfl | exact rf_ref _) ?_
        refine g_get O 3 3 rfl ov_t dJ1_fixAfterInsertion_11 q111 rfl (by decide) rfl rfl ?_
        refine g_acmp_eq O 258 dJ1_fixAfterInsertion_14 (by decide) rfl (rf_ref _) (fun hc2 => ?_) (fun hc2 => ?_)
        · exact done _ _ _ _ _ tR _
        · exact absurd (by rw [hC.1]; rfl) hc2
    | succ n ih =>
    intro cs hlen lf rt pa co root x l1 l2 hC t1 t2 hil hblack
    have hxi : x ∈ il := (plug_of hil hN).1 x (by simp)
    have tR := Cx.close _ hC (Tr.node t1 t2)
    rw [← hil] at tR
    refine g_aload_n O dJ1_fixAfterInsertion_5 rfl (by first | rfl | exact rf_ref _) ?_
    refine g_ifnull O 258 dJ1_fixAfterInsertion_6 (by decide) rfl (fun hc => ?_) (fun hc_a hc => ?_)
    · cases hc
    · refine g_aload_n O dJ1_fixAfterInsertion_9 rfl (by first | rfl | exact rf_ref _) ?_
      refine g_aload_n O dJ1_fixAfterInsertion_10 rfl (by first | rfl | exact rf_ref _) ?_
      refine g_get O 3 3 rfl ov_t dJ1_fixAfterInsertion_11 q111 rfl (by decide) rfl rfl ?_
      refine g_acmp_eq O 258 dJ1_fixAfterInsertion_14 (by decide) rfl (rf_ref _) (fun hc2 => ?_) (fun hc2 => ?_)
      · exact done _ _ _ _ _ tR _
      · have hne : root ≠ some x := fun z => hc2 (by rw [z]; rfl)
        cases cs with
        | nil => exact absurd hC.1 hne
        | cons k cs1 =>
        obtain ⟨d, P, ls⟩ := k
        obtain ⟨hpx, hD, hC1⟩ := hC
        obtain ⟨hmem, hnod⟩ := plug_of hil hN
        have hPi : P ∈ il := hmem P (by simp [cel])
        refine g_aload_n O dJ1_fixAfterInsertion_17 rfl (by first | rfl | exact rf_ref _) ?_
        refine g_get O 4 4 rfl (ov_e ht hxi) dJ1_fixAfterInsertion_18 q1092 rfl (by decide) rfl rfl ?_
        rw [hpx]
        refine g_get O 4 5 rfl (ov_e ht hPi) dJ1_fixAfterInsertion_21 q1094 rfl (by decide) rfl rfl ?_
        refine g_if_ne O 258 dJ1_fixAfterInsertion_24 (by decide) (fun hc3 => ?_) (fun hc3 => ?_)
        · exact done _ _ _ _ _ tR _
        · have hcP : co P = false := by
            cases z : co P
            · rfl
            · rw [z] at hc3; exact absurd hc3 (by decide)
          have hPx : P ≠ x := fun z => by
            simp only [cel, List.nodup_append] at hnod
            exact hnod.2.2 x (by simp) P (by simp) z.symm
          cases cs1 with
          | nil => exact absurd (hblack P hC1.1 hPx) (by rw [hcP]; decide)
          | cons k cs2 =>
          obtain ⟨d2, G, ls2⟩ := k
          obtain ⟨hpP, hD2, hC2⟩ := hC1
          have hGi : G ∈ il := hmem G (by simp [cel])
          have nx : ∀ b, b ∈ l1 ++ l2 ∨ b ∈ cel ((d, P, ls) :: (d2, G, ls2) :: cs2) → b ≠ x := nodx hnod
          have nP : ∀ b, b ∈ ls2 → b ≠ P := nodP hnod
          refine g_aload_n O dJ1_fixAfterInsertion_27 rfl (by first | rfl | exact rf_ref _) ?_
          refine g_callS O (n := 1) (c_J1_parentOf l E _ (ov_e ht hxi)) rfl dJ1_fixAfterInsertion_28 q1116 q1117 q41 q1118 (by decide +kernel) rfl rfl (by first | decide | omega) (by decide) (by first | exact Nat.le_of_ble_eq_true rfl | omega) (by first | exact Nat.le_of_ble_eq_true rfl | omega) (by first | exact Nat.le_of_ble_eq_true rfl | omega) (fun v h1 hp => ?_)
          obtain ⟨rfl, rfl⟩ := hp
          rw [hpx]
          refine g_aload_n O dJ1_fixAfterInsertion_31 rfl (by first | rfl | exact rf_ref _) ?_
          refine g_callS O (n := 1) (c_J1_parentOf l E _ (ov_e ht hxi)) rfl dJ1_fixAfterInsertion_32 q1116 q1117 q41 q1118 (by decide +kernel) rfl rfl (by first | decide | omega) (by decide) (by first | exact Nat.le_of_ble_eq_true rfl | omega) (by first | exact Nat.le_of_ble_eq_true rfl | omega) (by first | exact Nat.le_of_ble_eq_true rfl | omega) (fun v h1 hp => ?_)
          obtain ⟨rfl, rfl⟩ := hp
          rw [hpx]
          refine g_callS O (n := 1) (c_J1_parentOf l E _ (ov_e ht hPi)) rfl dJ1_fixAfterInsertion_35 q1116 q1117 q41 q1118 (by decide +kernel) rfl rfl (by first | decide | omega) (by decide) (by first | exact Nat.le_of_ble_eq_true rfl | omega) (by first | exact Nat.le_of_ble_eq_true rfl | omega) (by first | exact Nat.le_of_ble_eq_true rfl | omega) (fun v h1 hp => ?_)
          obtain ⟨rfl, rfl⟩ := hp
          rw [hpP]
          refine g_callS O (n := 1) (c_J1_leftOf l E _ (ov_e ht hGi)) rfl dJ1_fixAfterInsertion_38 q1119 q1120 q41 q1121 (by decide +kernel) rfl rfl (by first | decide | omega) (by decide) (by first | exact Nat.le_of_ble_eq_true rfl | omega) (by first | exact Nat.le_of_ble_eq_true rfl | omega) (by first | exact Nat.le_of_ble_eq_true rfl | omega) (fun v h1 hp => ?_)
          obtain ⟨rfl, rfl⟩ := hp
          cases d2
          · simp only [Bool.false_eq_true, if_false] at hD2
            refine g_acmp_ne O 151 dJ1_fixAfterInsertion_41 (by decide) rfl (rf_ref _) (fun hc6 => ?_) (fun hc6 => ?_)
            · refine g_aload_n O dJ1_fixAfterInsertion_151 rfl (by first | rfl | exact rf_ref _) ?_
              refine g_callS O (n := 1) (c_J1_parentOf l E _ (ov_e ht hxi)) rfl dJ1_fixAfterInsertion_152 q1116 q1117 q41 q1118 (by decide +kernel) rfl rfl (by first | decide | omega) (by decide) (by first | exact Nat.le_of_ble_eq_true rfl | omega) (by first | exact Nat.le_of_ble_eq_true rfl | omega) (by first | exact Nat.le_of_ble_eq_true rfl | omega) (fun v h1 hp => ?_)
              obtain ⟨rfl, rfl⟩ := hp
              rw [hpx]
              refine g_callS O (n := 1) (c_J1_parentOf l E _ (ov_e ht hPi)) rfl dJ1_fixAfterInsertion_155 q1116 q1117 q41 q1118 (by decide +kernel) rfl rfl (by first | decide | omega) (by decide) (by first | exact Nat.le_of_ble_eq_true rfl | omega) (by first | exact Nat.le_of_ble_eq_true rfl | omega) (by first | exact Nat.le_of_ble_eq_true rfl | omega) (fun v h1 hp => ?_)
              obtain ⟨rfl, rfl⟩ := hp
              rw [hpP]
              refine g_callS O (n := 1) (c_J1_leftOf l E _ (ov_e ht hGi)) rfl dJ1_fixAfterInsertion_158 q1119 q1120 q41 q1121 (by decide +kernel) rfl rfl (by first | decide | omega) (by decide) (by first | exact Nat.le_of_ble_eq_true rfl | omega) (by first | exact Nat.le_of_ble_eq_true rfl | omega) (by first | exact Nat.le_of_ble_eq_true rfl | omega) (fun v h1 hp => ?_)
              obtain ⟨rfl, rfl⟩ := hp
              have turn : Wg p l e (rmG 1 0 0) s m args below meth c E (MQ below (gQ E (fun v h' => v = none ∧ ∃ (lf' rt' pa' : Nat → Option Nat) (co' : Nat → Bool) (root' : Option Nat), Tr lf' rt' pa' root' none il ∧ (∀ r, root' = some r → co' r = true) ∧ ov h lab t il K V lf' rt' pa' co' root' sz mo = h')) args s 0 0 (gA E)) 204 [some (.ref t), some (.ref x), none] [] (ov h lab t il K V lf rt pa co root sz mo) 0 0 := by
                refine g_aload_n O dJ1_fixAfterInsertion_204 rfl (by first | rfl | exact rf_ref _) ?_
                refine g_aload_n O dJ1_fixAfterInsertion_205 rfl (by first | rfl | exact rf_ref _) ?_
                refine g_callS O (n := 1) (c_J1_parentOf l E _ (ov_e ht hxi)) rfl dJ1_fixAfterInsertion_206 q1116 q1117 q41 q1118 (by decide +kernel) rfl rfl (by first | decide | omega) (by decide) (by first | exact Nat.le_of_ble_eq_true rfl | omega) (by first | exact Nat.le_of_ble_eq_true rfl | omega) (by first | exact Nat.le_of_ble_eq_true rfl | omega) (fun v h1 hp => ?_)
                obtain ⟨rfl, rfl⟩ := hp
                rw [hpx]
                refine g_callS O (n := 1) (c_J1_leftOf l E _ (ov_e ht hPi)) rfl dJ1_fixAfterInsertion_209 q1119 q1120 q41 q1121 (by decide +kernel) rfl rfl (by first | decide | omega) (by decide) (by first | exact Nat.le_of_ble_eq_true rfl | omega) (by first | exact Nat.le_of_ble_eq_true rfl | omega) (by first | exact Nat.le_of_ble_eq_true rfl | omega) (fun v h1 hp => ?_)
                obtain ⟨rfl, rfl⟩ := hp
                cases d
                · -- x the right one
                  simp only [Bool.false_eq_true, if_false] at hD
                  refine g_acmp_ne O 225 dJ1_fixAfterInsertion_212 (by decide) rfl (rf_ref _) (fun hc5 => ?_) (fun hc5 => ?_)
                  · exact tailfalse _ _ _ _ _ cs2 x P G _ _ _ hD2.1 hpP hD.1 hpx hC2 (by rw [hD.1]; exact Tr.node' rfl rfl hpx t1 t2) hD.2 hD2.2 (by rw [hil]; simp [plug])
                  · have h9 : lf P = some x := (g_rf_inj (a := some x) hc5).symm
                    have h8 := hD.2
                    rw [h9] at h8
                    exact absurd rfl (nx x (Or.inr (by simp [cel, h8.top])))
                · simp only [if_true] at hD
                  refine g_acmp_ne O 225 dJ1_fixAfterInsertion_212 (by decide) rfl (rf_ref _) (fun hc5 => ?_) (fun hc5 => ?_)
                  · exact absurd (by rw [hD.1]; rfl) hc5
                  · refine g_aload_n O dJ1_fixAfterInsertion_215 rfl (by first | rfl | exact rf_ref _) ?_
                    refine g_callS O (n := 1) (c_J1_parentOf l E _ (ov_e ht hxi)) rfl dJ1_fixAfterInsertion_216 q1116 q1117 q41 q1118 (by decide +kernel) rfl rfl (by first | decide | omega) (by decide) (by first | exact Nat.le_of_ble_eq_true rfl | omega) (by first | exact Nat.le_of_ble_eq_true rfl | omega) (by first | exact Nat.le_of_ble_eq_true rfl | omega) (fun v h1 hp => ?_)
                    obtain ⟨rfl, rfl⟩ := hp
                    rw [hpx]
                    have hn2 : ((l1 ++ x :: l2) ++ P :: ls ++ cel ((false, G, ls2) :: cs2)).Nodup := by simpa [cel, List.append_assoc] using hnod
                    have nn := nod3r hn2
                    have hcx2 : Cx lf rt pa root ((false, G, ls2) :: cs2) (some P) (some G) := ⟨rfl, hD2, hC2⟩
                    obtain ⟨k1, k2, k3, k4, k5, k6, k7, k8, k9, k10⟩ := rotR hD.1 hn2 hcx2 hpP t1 hpx t2 hD.2
                    obtain ⟨-, hc1, hc2⟩ := k1
                    simp only [if_true, Bool.false_eq_true, if_false] at hc1
                    have tP := Tr.node' k9 k8 k10 k3 k4
                    refine g_astore_n O rfl dJ1_fixAfterInsertion_219 (by first | rfl | exact rf_ref _) (by first | rfl | exact rf_lst ⟨rfl, rfl⟩) ?_
                    refine g_aload_n O dJ1_fixAfterInsertion_220 rfl (by first | rfl | exact rf_ref _) ?_
                    refine g_aload_n O dJ1_fixAfterInsertion_221 rfl (by first | rfl | exact rf_ref _) ?_
                    refine g_callV O (n := 1) (c_J1_rotateRight l E h ht hlab hPi hD.1 hxi nn.1 (fun b hb => ⟨hmem b (by rw [hb] at t2; simp [t2.top]), (nn.2.2.1 b (by rw [hb] at t2; exact t2.top)).2.1⟩) (fun g hg => by rw [hpP] at hg; cases hg; exact hGi)) rfl rfl ov_t dJ1_fixAfterInsertion_222 q1135 q1137 qs12 q41 q1138 rfl (by decide +kernel) rfl rfl (by first | decide | omega) (by decide) (by first | exact Nat.le_of_ble_eq_true rfl | omega) (by first | exact Nat.le_of_ble_eq_true rfl | omega) (by first | exact Nat.le_of_ble_eq_true rfl | omega) (fun v h1 hp => ?_)
                    obtain ⟨rfl, rfl⟩ := hp
                    rw [hpP]
                    exact tailfalse _ _ _ _ _ cs2 P x G _ _ _ hc1.1 k7 k5 k10 hc2 (by rw [k5]; exact tP) (by rw [k6]; exact k2) hc1.2 (by rw [hil]; simp [plug, List.append_assoc])
              cases hu : lf G with
              | none =>
                refine g_astore_n O rfl dJ1_fixAfterInsertion_161 (by first | rfl | exact rf_ref _) (by first | rfl | exact rf_lst ⟨rfl, rfl⟩) ?_
                refine g_aload_n O dJ1_fixAfterInsertion_162 rfl (by first | rfl | exact rf_ref _) ?_
                refine g_callS O (n := 1) (c_J1_colorOfN l E _) rfl dJ1_fixAfterInsertion_163 q1125 q1126 q41 q1127 (by decide +kernel) rfl rfl (by first | decide | omega) (by decide) (by first | exact Nat.le_of_ble_eq_true rfl | omega) (by first | exact Nat.le_of_ble_eq_true rfl | omega) (by first | exact Nat.le_of_ble_eq_true rfl | omega) (fun v h1 hp => ?_)
                obtain ⟨rfl, rfl⟩ := hp
                refine g_if_ne O 204 dJ1_fixAfterInsertion_166 (by decide) (fun hc4 => ?_) (fun hc4 => ?_)
                · exact Wg.locals [some (.ref t), some (.ref x), none] rfl forget2 turn
                · exact absurd hc4 (by decide)
              | some U =>
                have hUi : U ∈ il := hmem U (by have h8 := hD2.2; rw [hu] at h8; simp [cel, h8.top])
                refine g_astore_n O rfl dJ1_fixAfterInsertion_161 (by first | rfl | exact rf_ref _) (by first | rfl | exact rf_lst ⟨rfl, rfl⟩) ?_
                refine g_aload_n O dJ1_fixAfterInsertion_162 rfl (by first | rfl | exact rf_ref _) ?_
                refine g_callS O (n := 1) (c_J1_colorOf l E _ (ov_e ht hUi)) rfl dJ1_fixAfterInsertion_163 q1125 q1126 q41 q1127 (by decide +kernel) rfl rfl (by first | decide | omega) (by decide) (by first | exact Nat.le_of_ble_eq_true rfl | omega) (by first | exact Nat.le_of_ble_eq_true rfl | omega) (by first | exact Nat.le_of_ble_eq_true rfl | omega) (fun v h1 hp => ?_)
                obtain ⟨rfl, rfl⟩ := hp
                refine g_if_ne O 204 dJ1_fixAfterInsertion_166 (by decide) (fun hc4 => ?_) (fun hc4 => ?_)
                · exact Wg.locals [some (.ref t), some (.ref x), none] rfl forget2 turn
                · refine g_aload_n O dJ1_fixAfterInsertion_169 rfl (by first | rfl | exact rf_ref _) ?_
                  refine g_callS O (n := 1) (c_J1_parentOf l E _ (ov_e ht hxi)) rfl dJ1_fixAfterInsertion_170 q1116 q1117 q41 q1118 (by decide +kernel) rfl rfl (by first | decide | omega) (by decide) (by first | exact Nat.le_of_ble_eq_true rfl | omega) (by first | exact Nat.le_of_ble_eq_true rfl | omega) (by first | exact Nat.le_of_ble_eq_true rfl | omega) (fun v h1 hp => ?_)
                  obtain ⟨rfl, rfl⟩ := hp
                  rw [hpx]
                  refine g_iconst O dJ1_fixAfterInsertion_173 (nI 1) rfl ?_
                  refine g_callS O (n := 2) (c_J1_setColor l E _ true hlab (ov_e ht hPi)) rfl dJ1_fixAfterInsertion_174 q1128 q1129 q41 q1130 (by decide +kernel) rfl rfl (by first | decide | omega) (by decide) (by first | exact Nat.le_of_ble_eq_true rfl | omega) (by first | exact Nat.le_of_ble_eq_true rfl | omega) (by first | exact Nat.le_of_ble_eq_true rfl | omega) (fun v h1 hp => ?_)
                  obtain ⟨rfl, rfl⟩ := hp
                  refine Wg.H _ (ov_co (y := true) ht hPi) ?_
                  refine g_aload_n O dJ1_fixAfterInsertion_177 rfl (by first | rfl | exact rf_ref _) ?_
                  refine g_iconst O dJ1_fixAfterInsertion_178 (nI 1) rfl ?_
                  refine g_callS O (n := 2) (c_J1_setColor l E _ true hlab (ov_e ht hUi)) rfl dJ1_fixAfterInsertion_179 q1128 q1129 q41 q1130 (by decide +kernel) rfl rfl (by first | decide | omega) (by decide) (by first | exact Nat.le_of_ble_eq_true rfl | omega) (by first | exact Nat.le_of_ble_eq_true rfl | omega) (by first | exact Nat.le_of_ble_eq_true rfl | omega) (fun v h1 hp => ?_)
                  obtain ⟨rfl, rfl⟩ := hp
                  refine Wg.H _ (ov_co (y := true) ht hUi) ?_
                  refine g_aload_n O dJ1_fixAfterInsertion_182 rfl (by first | rfl | exact rf_ref _) ?_
                  refine g_callS O (n := 1) (c_J1_parentOf l E _ (ov_e ht hxi)) rfl dJ1_fixAfterInsertion_183 q1116 q1117 q41 q1118 (by decide +kernel) rfl rfl (by first | decide | omega) (by decide) (by first | exact Nat.le_of_ble_eq_true rfl | omega) (by first | exact Nat.le_of_ble_eq_true rfl | omega) (by first | exact Nat.le_of_ble_eq_true rfl | omega) (fun v h1 hp => ?_)
                  obtain ⟨rfl, rfl⟩ := hp
                  rw [hpx]
                  refine g_callS O (n := 1) (c_J1_parentOf l E _ (ov_e ht hPi)) rfl dJ1_fixAfterInsertion_186 q1116 q1117 q41 q1118 (by decide +kernel) rfl rfl (by first | decide | omega) (by decide) (by first | exact Nat.le_of_ble_eq_true rfl | omega) (by first | exact Nat.le_of_ble_eq_true rfl | omega) (by first | exact Nat.le_of_ble_eq_true rfl | omega) (fun v h1 hp => ?_)
                  obtain ⟨rfl, rfl⟩ := hp
                  rw [hpP]
                  refine g_iconst O dJ1_fixAfterInsertion_189 (nI 0) rfl ?_
                  refine g_callS O (n := 2) (c_J1_setColor l E _ false hlab (ov_e ht hGi)) rfl dJ1_fixAfterInsertion_190 q1128 q1129 q41 q1130 (by decide +kernel) rfl rfl (by first | decide | omega) (by decide) (by first | exact Nat.le_of_ble_eq_true rfl | omega) (by first | exact Nat.le_of_ble_eq_true rfl | omega) (by first | exact Nat.le_of_ble_eq_true rfl | omega) (fun v h1 hp => ?_)
                  obtain ⟨rfl, rfl⟩ := hp
                  refine Wg.H _ (ov_co (y := false) ht hGi) ?_
                  refine g_aload_n O dJ1_fixAfterInsertion_193 rfl (by first | rfl | exact rf_ref _) ?_
                  refine g_callS O (n := 1) (c_J1_parentOf l E _ (ov_e ht hxi)) rfl dJ1_fixAfterInsertion_194 q1116 q1117 q41 q1118 (by decide +kernel) rfl rfl (by first | decide | omega) (by decide) (by first | exact Nat.le_of_ble_eq_true rfl | omega) (by first | exact Nat.le_of_ble_eq_true rfl | omega) (by first | exact Nat.le_of_ble_eq_true rfl | omega) (fun v h1 hp => ?_)
                  obtain ⟨rfl, rfl⟩ := hp
                  rw [hpx]
                  refine g_callS O (n := 1) (c_J1_parentOf l E _ (ov_e ht hPi)) rfl dJ1_fixAfterInsertion_197 q1116 q1117 q41 q1118 (by decide +kernel) rfl rfl (by first | decide | omega) (by decide) (by first | exact Nat.le_of_ble_eq_true rfl | omega) (by first | exact Nat.le_of_ble_eq_true rfl | omega) (by first | exact Nat.le_of_ble_eq_true rfl | omega) (fun v h1 hp => ?_)
                  obtain ⟨rfl, rfl⟩ := hp
                  rw [hpP]
                  refine g_astore_n O rfl dJ1_fixAfterInsertion_200 (by first | rfl | exact rf_ref _) (by first | rfl | exact rf_lst ⟨rfl, rfl⟩) ?_
                  refine g_goto O 255 dJ1_fixAfterInsertion_201 (by decide) ?_
                  refine g_goto O 5 dJ1_fixAfterInsertion_255 (by decide) ?_
                  refine Wg.locals [some (.ref t), some (.ref G), none] rfl forget2 ?_
                  have hb2 : ∀ r, root = some r → r ≠ G → fu (fu (fu co P true) U true) G false r = true := fun r hr hrG => by
                    rw [fu_ne hrG]
                    by_cases z1 : r = U
                    · rw [z1, fu_self]
                    · rw [fu_ne z1]
                      by_cases z2 : r = P
                      · rw [z2, fu_self]
                      · rw [fu_ne z2]
                        exact hblack r hr (fun z => hne (by rw [hr, z]))
                  cases d
                  · simp only [Bool.false_eq_true, if_false] at hD
                    exact ih cs2 (by simp at hlen; omega) lf rt pa _ root G _ _ hC2 hD2.2 (by rw [hD2.1]; exact Tr.node' rfl hD.1 hpP hD.2 (Tr.node' rfl rfl hpx t1 t2)) hil hb2
                  · simp only [if_true] at hD
                    exact ih cs2 (by simp at hlen; omega) lf rt pa _ root G _ _ hC2 hD2.2 (by rw [hD2.1]; exact Tr.node' hD.1 rfl hpP (Tr.node' rfl rfl hpx t1 t2) hD.2) hil hb2
            · have h9 : lf G = some P := (g_rf_inj (a := some P) hc6).symm
              have h8 := hD2.2
              rw [h9] at h8
              exact absurd rfl (nP P h8.top)
          · simp only [if_true] at hD2
            refine g_acmp_ne O 151 dJ1_fixAfterInsertion_41 (by decide) rfl (rf_ref _) (fun hc6 => ?_) (fun hc6 => ?_)
            · exact absurd (by rw [hD2.1]) hc6
            · refine g_aload_n O dJ1_fixAfterInsertion_44 rfl (by first | rfl | exact rf_ref _) ?_
              refine g_callS O (n := 1) (c_J1_parentOf l E _ (ov_e ht hxi)) rfl dJ1_fixAfterInsertion_45 q1116 q1117 q41 q1118 (by decide +kernel) rfl rfl (by first | decide | omega) (by decide) (by first | exact Nat.le_of_ble_eq_true rfl | omega) (by first | exact Nat.le_of_ble_eq_true rfl | omega) (by first | exact Nat.le_of_ble_eq_true rfl | omega) (fun v h1 hp => ?_)
              obtain ⟨rfl, rfl⟩ := hp
              rw [hpx]
              refine g_callS O (n := 1) (c_J1_parentOf l E _ (ov_e ht hPi)) rfl dJ1_fixAfterInsertion_48 q1116 q1117 q41 q1118 (by decide +kernel) rfl rfl (by first | decide | omega) (by decide) (by first | exact Nat.le_of_ble_eq_true rfl | omega) (by first | exact Nat.le_of_ble_eq_true rfl | omega) (by first | exact Nat.le_of_ble_eq_true rfl | omega) (fun v h1 hp => ?_)
              obtain ⟨rfl, rfl⟩ := hp
              rw [hpP]
              refine g_callS O (n := 1) (c_J1_rightOf l E _ (ov_e ht hGi)) rfl dJ1_fixAfterInsertion_51 q1122 q1123 q41 q1124 (by decide +kernel) rfl rfl (by first | decide | omega) (by decide) (by first | exact Nat.le_of_ble_eq_true rfl | omega) (by first | exact Nat.le_of_ble_eq_true rfl | omega) (by first | exact Nat.le_of_ble_eq_true rfl | omega) (fun v h1 hp => ?_)
              obtain ⟨rfl, rfl⟩ := hp
              have turn : Wg p l e (rmG 1 0 0) s m args below meth c E (MQ below (gQ E (fun v h' => v = none ∧ ∃ (lf' rt' pa' : Nat → Option Nat) (co' : Nat → Bool) (root' : Option Nat), Tr lf' rt' pa' root' none il ∧ (∀ r, root' = some r → co' r = true) ∧ ov h lab t il K V lf' rt' pa' co' root' sz mo = h')) args s 0 0 (gA E)) 97 [some (.ref t), some (.ref x), none] [] (ov h lab t il K V lf rt pa co root sz mo) 0 0 := by
                refine g_aload_n O dJ1_fixAfterInsertion_97 rfl (by first | rfl | exact rf_ref _) ?_
                refine g_aload_n O dJ1_fixAfterInsertion_98 rfl (by first | rfl | exact rf_ref _) ?_
                refine g_callS O (n := 1) (c_J1_parentOf l E _ (ov_e ht hxi)) rfl dJ1_fixAfterInsertion_99 q1116 q1117 q41 q1118 (by decide +kernel) rfl rfl (by first | decide | omega) (by decide) (by first | exact Nat.le_of_ble_eq_true rfl | omega) (by first | exact Nat.le_of_ble_eq_true rfl | omega) (by first | exact Nat.le_of_ble_eq_true rfl | omega) (fun v h1 hp => ?_)
                obtain ⟨rfl, rfl⟩ := hp
                rw [hpx]
                refine g_callS O (n := 1) (c_J1_rightOf l E _ (ov_e ht hPi)) rfl dJ1_fixAfterInsertion_102 q1122 q1123 q41 q1124 (by decide +kernel) rfl rfl (by first | decide | omega) (by decide) (by first | exact Nat.le_of_ble_eq_true rfl | omega) (by first | exact Nat.le_of_ble_eq_true rfl | omega) (by first | exact Nat.le_of_ble_eq_true rfl | omega) (fun v h1 hp => ?_)
                obtain ⟨rfl, rfl⟩ := hp
                cases d
                · -- x the right one
                  simp only [Bool.false_eq_true, if_false] at hD
                  refine g_acmp_ne O 118 dJ1_fixAfterInsertion_105 (by decide) rfl (rf_ref _) (fun hc5 => ?_) (fun hc5 => ?_)
                  · exact absurd (by rw [hD.1]; rfl) hc5
                  · refine g_aload_n O dJ1_fixAfterInsertion_108 rfl (by first | rfl | exact rf_ref _) ?_
                    refine g_callS O (n := 1) (c_J1_parentOf l E _ (ov_e ht hxi)) rfl dJ1_fixAfterInsertion_109 q1116 q1117 q41 q1118 (by decide +kernel) rfl rfl (by first | decide | omega) (by decide) (by first | exact Nat.le_of_ble_eq_true rfl | omega) (by first | exact Nat.le_of_ble_eq_true rfl | omega) (by first | exact Nat.le_of_ble_eq_true rfl | omega) (fun v h1 hp => ?_)
                    obtain ⟨rfl, rfl⟩ := hp
                    rw [hpx]
                    have hn2 : (ls ++ P :: (l1 ++ x :: l2) ++ cel ((true, G, ls2) :: cs2)).Nodup := swapL (M := l1 ++ x :: l2) (P := P) (ls := ls) (k := cel ((true, G, ls2) :: cs2)) hnod
                    have nn := nod3 hn2
                    have hcx2 : Cx lf rt pa root ((true, G, ls2) :: cs2) (some P) (some G) := ⟨rfl, hD2, hC2⟩
                    obtain ⟨k1, k2, k3, k4, k5, k6, k7, k8, k9, k10⟩ := rotL hD.1 hn2 hcx2 hpP hD.2 hpx t1 t2
                    obtain ⟨-, hc1, hc2⟩ := k1
                    simp only [if_true, Bool.false_eq_true, if_false] at hc1
                    have tP := Tr.node' k8 k9 k10 k2 k3
                    refine g_astore_n O rfl dJ1_fixAfterInsertion_112 (by first | rfl | exact rf_ref _) (by first | rfl | exact rf_lst ⟨rfl, rfl⟩) ?_
                    refine g_aload_n O dJ1_fixAfterInsertion_113 rfl (by first | rfl | exact rf_ref _) ?_
                    refine g_aload_n O dJ1_fixAfterInsertion_114 rfl (by first | rfl | exact rf_ref _) ?_
                    refine g_callV O (n := 1) (c_J1_rotateLeft l E h ht hlab hPi hD.1 hxi nn.1 (fun b hb => ⟨hmem b (by rw [hb] at t1; simp [t1.top]), (nn.2.2.1 b (by rw [hb] at t1; exact t1.top)).1⟩) (fun g hg => by rw [hpP] at hg; cases hg; exact hGi)) rfl rfl ov_t dJ1_fixAfterInsertion_115 q1131 q1133 qs11 q41 q1134 rfl (by decide +kernel) rfl rfl (by first | decide | omega) (by decide) (by first | exact Nat.le_of_ble_eq_true rfl | omega) (by first | exact Nat.le_of_ble_eq_true rfl | omega) (by first | exact Nat.le_of_ble_eq_true rfl | omega) (fun v h1 hp => ?_)
                    obtain ⟨rfl, rfl⟩ := hp
                    rw [hpP]
                    exact tailtrue _ _ _ _ _ cs2 P x G _ _ _ hc1.1 k7 k5 k10 hc2 (by rw [k5]; exact tP) (by rw [k6]; exact k4) hc1.2 (by rw [hil]; simp [plug, List.append_assoc])
                · simp only [if_true] at hD
                  refine g_acmp_ne O 118 dJ1_fixAfterInsertion_105 (by decide) rfl (rf_ref _) (fun hc5 => ?_) (fun hc5 => ?_)
                  · exact tailtrue _ _ _ _ _ cs2 x P G _ _ _ hD2.1 hpP hD.1 hpx hC2 (by rw [hD.1]; exact Tr.node' rfl rfl hpx t1 t2) hD.2 hD2.2 (by rw [hil]; simp [plug])
                  · have h9 : rt P = some x := (g_rf_inj (a := some x) hc5).symm
                    have h8 := hD.2
                    rw [h9] at h8
                    exact absurd rfl (nx x (Or.inr (by simp [cel, h8.top])))
              cases hu : rt G with
              | none =>
                refine g_astore_n O rfl dJ1_fixAfterInsertion_54 (by first | rfl | exact rf_ref _) (by first | rfl | exact rf_lst ⟨rfl, rfl⟩) ?_
                refine g_aload_n O dJ1_fixAfterInsertion_55 rfl (by first | rfl | exact rf_ref _) ?_
                refine g_callS O (n := 1) (c_J1_colorOfN l E _) rfl dJ1_fixAfterInsertion_56 q1125 q1126 q41 q1127 (by decide +kernel) rfl rfl (by first | decide | omega) (by decide) (by first | exact Nat.le_of_ble_eq_true rfl | omega) (by first | exact Nat.le_of_ble_eq_true rfl | omega) (by first | exact Nat.le_of_ble_eq_true rfl | omega) (fun v h1 hp => ?_)
                obtain ⟨rfl, rfl⟩ := hp
                refine g_if_ne O 97 dJ1_fixAfterInsertion_59 (by decide) (fun hc4 => ?_) (fun hc4 => ?_)
                · exact Wg.locals [some (.ref t), some (.ref x), none] rfl forget2 turn
                · exact absurd hc4 (by decide)
              | some U =>
                have hUi : U ∈ il := hmem U (by have h8 := hD2.2; rw [hu] at h8; simp [cel, h8.top])
                refine g_astore_n O rfl dJ1_fixAfterInsertion_54 (by first | rfl | exact rf_ref _) (by first | rfl | exact rf_lst ⟨rfl, rfl⟩) ?_
                refine g_aload_n O dJ1_fixAfterInsertion_55 rfl (by first | rfl | exact rf_ref _) ?_
                refine g_callS O (n := 1) (c_J1_colorOf l E _ (ov_e ht hUi)) rfl dJ1_fixAfterInsertion_56 q1125 q1126 q41 q1127 (by decide +kernel) rfl rfl (by first | decide | omega) (by decide) (by first | exact Nat.le_of_ble_eq_true rfl | omega) (by first | exact Nat.le_of_ble_eq_true rfl | omega) (by first | exact Nat.le_of_ble_eq_true rfl | omega) (fun v h1 hp => ?_)
                obtain ⟨rfl, rfl⟩ := hp
                refine g_if_ne O 97 dJ1_fixAfterInsertion_59 (by decide) (fun hc4 => ?_) (fun hc4 => ?_)
                · exact Wg.locals [some (.ref t), some (.ref x), none] rfl forget2 turn
                · refine g_aload_n O dJ1_fixAfterInsertion_62 rfl (by first | rfl | exact rf_ref _) ?_
                  refine g_callS O (n := 1) (c_J1_parentOf l E _ (ov_e ht hxi)) rfl dJ1_fixAfterInsertion_63 q1116 q1117 q41 q1118 (by decide +kernel) rfl rfl (by first | decide | omega) (by decide) (by first | exact Nat.le_of_ble_eq_true rfl | omega) (by first | exact Nat.le_of_ble_eq_true rfl | omega) (by first | exact Nat.le_of_ble_eq_true rfl | omega) (fun v h1 hp => ?_)
                  obtain ⟨rfl, rfl⟩ := hp
                  rw [hpx]
                  refine g_iconst O dJ1_fixAfterInsertion_66 (nI 1) rfl ?_
                  refine g_callS O (n := 2) (c_J1_setColor l E _ true hlab (ov_e ht hPi)) rfl dJ1_fixAfterInsertion_67 q1128 q1129 q41 q1130 (by decide +kernel) rfl rfl (by first | decide | omega) (by decide) (by first | exact Nat.le_of_ble_eq_true rfl | omega) (by first | exact Nat.le_of_ble_eq_true rfl | omega) (by first | exact Nat.le_of_ble_eq_true rfl | omega) (fun v h1 hp => ?_)
                  obtain ⟨rfl, rfl⟩ := hp
                  refine Wg.H _ (ov_co (y := true) ht hPi) ?_
                  refine g_aload_n O dJ1_fixAfterInsertion_70 rfl (by first | rfl | exact rf_ref _) ?_
                  refine g_iconst O dJ1_fixAfterInsertion_71 (nI 1) rfl ?_
                  refine g_callS O (n := 2) (c_J1_setColor l E _ true hlab (ov_e ht hUi)) rfl dJ1_fixAfterInsertion_72 q1128 q1129 q41 q1130 (by decide +kernel) rfl rfl (by first | decide | omega) (by decide) (by first | exact Nat.le_of_ble_eq_true rfl | omega) (by first | exact Nat.le_of_ble_eq_true rfl | omega) (by first | exact Nat.le_of_ble_eq_true rfl | omega) (fun v h1 hp => ?_)
                  obtain ⟨rfl, rfl⟩ := hp
                  refine Wg.H _ (ov_co (y := true) ht hUi) ?_
                  refine g_aload_n O dJ1_fixAfterInsertion_75 rfl (by first | rfl | exact rf_ref _) ?_
                  refine g_callS O (n := 1) (c_J1_parentOf l E _ (ov_e ht hxi)) rfl dJ1_fixAfterInsertion_76 q1116 q1117 q41 q1118 (by decide +kernel) rfl rfl (by first | decide | omega) (by decide) (by first | exact Nat.le_of_ble_eq_true rfl | omega) (by first | exact Nat.le_of_ble_eq_true rfl | omega) (by first | exact Nat.le_of_ble_eq_true rfl | omega) (fun v h1 hp => ?_)
                  obtain ⟨rfl, rfl⟩ := hp
                  rw [hpx]
                  refine g_callS O (n := 1) (c_J1_parentOf l E _ (ov_e ht hPi)) rfl dJ1_fixAfterInsertion_79 q1116 q1117 q41 q1118 (by decide +kernel) rfl rfl (by first | decide | omega) (by decide) (by first | exact Nat.le_of_ble_eq_true rfl | omega) (by first | exact Nat.le_of_ble_eq_true rfl | omega) (by first | exact Nat.le_of_ble_eq_true rfl | omega) (fun v h1 hp => ?_)
                  obtain ⟨rfl, rfl⟩ := hp
                  rw [hpP]
                  refine g_iconst O dJ1_fixAfterInsertion_82 (nI 0) rfl ?_
                  refine g_callS O (n := 2) (c_J1_setColor l E _ false hlab (ov_e ht hGi)) rfl dJ1_fixAfterInsertion_83 q1128 q1129 q41 q1130 (by decide +kernel) rfl rfl (by first | decide | omega) (by decide) (by first | exact Nat.le_of_ble_eq_true rfl | omega) (by first | exact Nat.le_of_ble_eq_true rfl | omega) (by first | exact Nat.le_of_ble_eq_true rfl | omega) (fun v h1 hp => ?_)
                  obtain ⟨rfl, rfl⟩ := hp
                  refine Wg.H _ (ov_co (y := false) ht hGi) ?_
                  refine g_aload_n O dJ1_fixAfterInsertion_86 rfl (by first | rfl | exact rf_ref _) ?_
                  refine g_callS O (n := 1) (c_J1_parentOf l E _ (ov_e ht hxi)) rfl dJ1_fixAfterInsertion_87 q1116 q1117 q41 q1118 (by decide +kernel) rfl rfl (by first | decide | omega) (by decide) (by first | exact Nat.le_of_ble_eq_true rfl | omega) (by first | exact Nat.le_of_ble_eq_true rfl | omega) (by first | exact Nat.le_of_ble_eq_true rfl | omega) (fun v h1 hp => ?_)
                  obtain ⟨rfl, rfl⟩ := hp
                  rw [hpx]
                  refine g_callS O (n := 1) (c_J1_parentOf l E _ (ov_e ht hPi)) rfl dJ1_fixAfterInsertion_90 q1116 q1117 q41 q1118 (by decide +kernel) rfl rfl (by first | decide | omega) (by decide) (by first | exact Nat.le_of_ble_eq_true rfl | omega) (by first | exact Nat.le_of_ble_eq_true rfl | omega) (by first | exact Nat.le_of_ble_eq_true rfl | omega) (fun v h1 hp => ?_)
                  obtain ⟨rfl, rfl⟩ := hp
                  rw [hpP]
                  refine g_astore_n O rfl dJ1_fixAfterInsertion_93 (by first | rfl | exact rf_ref _) (by first | rfl | exact rf_lst ⟨rfl, rfl⟩) ?_
                  refine g_goto O 148 dJ1_fixAfterInsertion_94 (by decide) ?_
                  refine g_goto O 5 dJ1_fixAfterInsertion_148 (by decide) ?_
                  refine Wg.locals [some (.ref t), some (.ref G), none] rfl forget2 ?_
                  have hb2 : ∀ r, root = some r → r ≠ G → fu (fu (fu co P true) U true) G false r = true := fun r hr hrG => by
                    rw [fu_ne hrG]
                    by_cases z1 : r = U
                    · rw [z1, fu_self]
                    · rw [fu_ne z1]
                      by_cases z2 : r = P
                      · rw [z2, fu_self]
                      · rw [fu_ne z2]
                        exact hblack r hr (fun z => hne (by rw [hr, z]))
                  cases d
                  · simp only [Bool.false_eq_true, if_false] at hD
                    exact ih cs2 (by simp at hlen; omega) lf rt pa _ root G _ _ hC2 (by rw [hD2.1]; exact Tr.node' rfl hD.1 hpP hD.2 (Tr.node' rfl rfl hpx t1 t2)) hD2.2 hil hb2
                  · simp only [if_true] at hD
                    exact ih cs2 (by simp at hlen; omega) lf rt pa _ root G _ _ hC2 (by rw [hD2.1]; exact Tr.node' hD.1 rfl hpP (Tr.node' rfl rfl hpx t1 t2) hD.2) hD2.2 hil hb2
  exact loop _ cs0 (Nat.le_refl _) _ _ _ _ _ _ _ _ hC0 s1 s2 hil0 (fun r hr hn => by rw [fu_ne hn]; exact hb0 r hr hn)
