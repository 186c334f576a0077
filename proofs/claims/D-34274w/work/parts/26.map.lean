set_option maxRecDepth 100000
/-! TreeMap: its entries as functions of their addresses -/
theorem rf_ref (x : Option Nat) : (va_rf x).isRef = true := by cases x <;> rfl
theorem rf_lst {L : List (Option Value)} {i : Nat} {x : Option Nat} (h : Nat.ble (i + 2) L.length = true ∧ L[i]? = some (some (va_rf x))) : lst L (i + 1) 1 = true := by
  have e : (va_rf x).category = 1 := by cases x <;> rfl
  unfold lst
  simp only [lok, h.2, e, h.1, Bool.and_self, Bool.and_eq_true, beq_self_eq_true, and_true]
theorem rf_lok {L : List (Option Value)} {i : Nat} {x : Option Nat} (h : L[i]? = some (some (va_rf x))) : lok L (i + 1) = true := by
  have e : (va_rf x).category = 1 := by cases x <;> rfl
  simp only [lok, h, e, beq_self_eq_true]
theorem rf_fit {n : String} (x : Option Nat) : fits (.object n) (va_rf x) = true := by cases x <;> rfl
theorem rf_nar {n : String} (x : Option Nat) : narrow (.object n) (va_rf x) = va_rf x := by cases x <;> rfl
abbrev bI (b : Bool) : Int32 := if b then nI 1 else nI 0
abbrev cEnt (k v : Nat) (lf rt pa : Option Nat) (co : Bool) : va_E := .inr (4, [.ref k, .ref v, va_rf lf, va_rf rt, va_rf pa, .int (bI co)])
abbrev cMap (root : Option Nat) (sz mo : Int32) : va_E := .inr (3, [.null, .null, .null, va_rf root, .int sz, .int mo, .null, .null, .null])
/-- the cells h, the map's own put over them -/
def ov (h : HV) (lab t : Nat) (il : List Nat) (K V : Nat → Nat) (lf rt pa : Nat → Option Nat) (co : Nat → Bool) (root : Option Nat) (sz mo : Int32) : HV := fun b => if b = t then some (lab, cMap root sz mo) else if b ∈ il then some (lab, cEnt (K b) (V b) (lf b) (rt b) (pa b) (co b)) else h b
section GOV
variable {h : HV} {lab t : Nat} {il : List Nat} {K V : Nat → Nat} {lf rt pa : Nat → Option Nat} {co : Nat → Bool} {root : Option Nat} {sz mo : Int32} {a : Nat} {x : Option Nat}
theorem ov_t : ov h lab t il K V lf rt pa co root sz mo t = some (lab, cMap root sz mo) := if_pos rfl
theorem ov_e (ht : t ∉ il) (ha : a ∈ il) : ov h lab t il K V lf rt pa co root sz mo a = some (lab, cEnt (K a) (V a) (lf a) (rt a) (pa a) (co a)) := by
  have hn : a ≠ t := fun z => ht (z ▸ ha)
  unfold ov
  rw [if_neg hn, if_pos ha]
theorem ov_n (ha : a ≠ t) (hb : a ∉ il) : ov h lab t il K V lf rt pa co root sz mo a = h a := by
  unfold ov
  rw [if_neg ha, if_neg hb]
theorem ov_up {lf' rt' pa' : Nat → Option Nat} {co' : Nat → Bool} {c : Nat × va_E} (ht : t ∉ il) (ha : a ∈ il) (e : c = (lab, cEnt (K a) (V a) (lf' a) (rt' a) (pa' a) (co' a))) (o : ∀ b, b ≠ a → lf' b = lf b ∧ rt' b = rt b ∧ pa' b = pa b ∧ co' b = co b) : hup (ov h lab t il K V lf rt pa co root sz mo) a c = ov h lab t il K V lf' rt' pa' co' root sz mo := by
  funext b
  by_cases hb : b = a
  · subst hb
    rw [hup_self, ov_e ht ha, e]
  · rw [hup_ne hb]
    obtain ⟨o1, o2, o3, o4⟩ := o b hb
    unfold ov
    rw [o1, o2, o3, o4]
theorem ov_lf (ht : t ∉ il) (ha : a ∈ il) : hup (ov h lab t il K V lf rt pa co root sz mo) a (lab, cEnt (K a) (V a) x (rt a) (pa a) (co a)) = ov h lab t il K V (fu lf a x) rt pa co root sz mo := ov_up ht ha (by rw [fu_self]) (fun b hb => ⟨fu_ne hb, rfl, rfl, rfl⟩)
theorem ov_rt (ht : t ∉ il) (ha : a ∈ il) : hup (ov h lab t il K V lf rt pa co root sz mo) a (lab, cEnt (K a) (V a) (lf a) x (pa a) (co a)) = ov h lab t il K V lf (fu rt a x) pa co root sz mo := ov_up ht ha (by rw [fu_self]) (fun b hb => ⟨rfl, fu_ne hb, rfl, rfl⟩)
theorem ov_pa (ht : t ∉ il) (ha : a ∈ il) : hup (ov h lab t il K V lf rt pa co root sz mo) a (lab, cEnt (K a) (V a) (lf a) (rt a) x (co a)) = ov h lab t il K V lf rt (fu pa a x) co root sz mo := ov_up ht ha (by rw [fu_self]) (fun b hb => ⟨rfl, rfl, fu_ne hb, rfl⟩)
theorem ov_co {y : Bool} (ht : t ∉ il) (ha : a ∈ il) : hup (ov h lab t il K V lf rt pa co root sz mo) a (lab, cEnt (K a) (V a) (lf a) (rt a) (pa a) y) = ov h lab t il K V lf rt pa (fu co a y) root sz mo := ov_up ht ha (by rw [fu_self]) (fun b hb => ⟨rfl, rfl, rfl, fu_ne hb⟩)
theorem ov_mp {root' : Option Nat} {sz' mo' : Int32} : hup (ov h lab t il K V lf rt pa co root sz mo) t (lab, cMap root' sz' mo') = ov h lab t il K V lf rt pa co root' sz' mo' := by
  funext b
  by_cases hb : b = t
  · subst hb
    rw [hup_self, ov_t]
  · rw [hup_ne hb]
    unfold ov
    rw [if_neg hb, if_neg hb]
theorem ov_self (ht : h t = some (lab, cMap root sz mo)) (he : ∀ a ∈ il, h a = some (lab, cEnt (K a) (V a) (lf a) (rt a) (pa a) (co a))) : h = ov h lab t il K V lf rt pa co root sz mo := by
  funext b
  unfold ov
  split
  · rename_i hb
    rw [hb, ht]
  · split
    · rename_i hb
      exact he b hb
    · rfl
end GOV
theorem c_J1_parentOf (l : Launch) (E : GE) (h : HV) {a lab k v : Nat} {x y z : Option Nat} {b : Bool} (ha : h a = some (lab, cEnt k v x y z b)) : Cg l E yJ1_parentOf cJ1_parentOf 1 (some (.object "java/util/TreeMap$Entry")) 0 0 0 [.ref a] h (fun v h' => v = some (va_rf z) ∧ h = h') := by
  refine Cg.of (by first | exact plainFor_of_name (by decide) | decide +kernel) [some (.ref a)] (Nat.le_of_ble_eq_true rfl) rfl ?_
  intro p e s m args below meth c O
  refine g_aload_n O dJ1_parentOf_0 rfl (by first | rfl | exact rf_ref _) ?_
  refine g_ifnonnull O 8 dJ1_parentOf_1 (by decide) rfl (fun hc => ?_) (fun hc_a hc => ?_)
  · cases hc
  · refine g_aload_n O dJ1_parentOf_8 rfl (by first | rfl | exact rf_ref _) ?_
    refine g_get O 4 4 rfl ha dJ1_parentOf_9 q1092 rfl (by decide) rfl rfl ?_
    exact g_aret O dJ1_parentOf_12 (by first | exact Or.inl ⟨_, rfl⟩ | exact Or.inr ⟨_, rfl⟩) (g_rfO _) (by first | exact Nat.le_of_ble_eq_true rfl | omega) (by first | exact Nat.le_of_ble_eq_true rfl | omega) ⟨rfl, rfl⟩
theorem c_J1_leftOf (l : Launch) (E : GE) (h : HV) {a lab k v : Nat} {x y z : Option Nat} {b : Bool} (ha : h a = some (lab, cEnt k v x y z b)) : Cg l E yJ1_leftOf cJ1_leftOf 1 (some (.object "java/util/TreeMap$Entry")) 0 0 0 [.ref a] h (fun v h' => v = some (va_rf x) ∧ h = h') := by
  refine Cg.of (by first | exact plainFor_of_name (by decide) | decide +kernel) [some (.ref a)] (Nat.le_of_ble_eq_true rfl) rfl ?_
  intro p e s m args below meth c O
  refine g_aload_n O dJ1_leftOf_0 rfl (by first | rfl | exact rf_ref _) ?_
  refine g_ifnonnull O 8 dJ1_leftOf_1 (by decide) rfl (fun hc => ?_) (fun hc_a hc => ?_)
  · cases hc
  · refine g_aload_n O dJ1_leftOf_8 rfl (by first | rfl | exact rf_ref _) ?_
    refine g_get O 4 2 rfl ha dJ1_leftOf_9 q1089 rfl (by decide) rfl rfl ?_
    exact g_aret O dJ1_leftOf_12 (by first | exact Or.inl ⟨_, rfl⟩ | exact Or.inr ⟨_, rfl⟩) (g_rfO _) (by first | exact Nat.le_of_ble_eq_true rfl | omega) (by first | exact Nat.le_of_ble_eq_true rfl | omega) ⟨rfl, rfl⟩
theorem c_J1_rightOf (l : Launch) (E : GE) (h : HV) {a lab k v : Nat} {x y z : Option Nat} {b : Bool} (ha : h a = some (lab, cEnt k v x y z b)) : Cg l E yJ1_rightOf cJ1_rightOf 1 (some (.object "java/util/TreeMap$Entry")) 0 0 0 [.ref a] h (fun v h' => v = some (va_rf y) ∧ h = h') := by
  refine Cg.of (by first | exact plainFor_of_name (by decide) | decide +kernel) [some (.ref a)] (Nat.le_of_ble_eq_true rfl) rfl ?_
  intro p e s m args below meth c O
  refine g_aload_n O dJ1_rightOf_0 rfl (by first | rfl | exact rf_ref _) ?_
  refine g_ifnonnull O 8 dJ1_rightOf_1 (by decide) rfl (fun hc => ?_) (fun hc_a hc => ?_)
  · cases hc
  · refine g_aload_n O dJ1_rightOf_8 rfl (by first | rfl | exact rf_ref _) ?_
    refine g_get O 4 3 rfl ha dJ1_rightOf_9 q1090 rfl (by decide) rfl rfl ?_
    exact g_aret O dJ1_rightOf_12 (by first | exact Or.inl ⟨_, rfl⟩ | exact Or.inr ⟨_, rfl⟩) (g_rfO _) (by first | exact Nat.le_of_ble_eq_true rfl | omega) (by first | exact Nat.le_of_ble_eq_true rfl | omega) ⟨rfl, rfl⟩
theorem c_J1_colorOf (l : Launch) (E : GE) (h : HV) {a lab k v : Nat} {x y z : Option Nat} {b : Bool} (ha : h a = some (lab, cEnt k v x y z b)) : Cg l E yJ1_colorOf cJ1_colorOf 1 (some .boolean) 0 0 0 [.ref a] h (fun v h' => v = some (.int (bI b)) ∧ h = h') := by
  refine Cg.of (by first | exact plainFor_of_name (by decide) | decide +kernel) [some (.ref a)] (Nat.le_of_ble_eq_true rfl) rfl ?_
  intro p e s m args below meth c O
  refine g_aload_n O dJ1_colorOf_0 rfl (by first | rfl | exact rf_ref _) ?_
  refine g_ifnonnull O 8 dJ1_colorOf_1 (by decide) rfl (fun hc => ?_) (fun hc_a hc => ?_)
  · cases hc
  · refine g_aload_n O dJ1_colorOf_8 rfl (by first | rfl | exact rf_ref _) ?_
    refine g_get O 4 5 rfl ha dJ1_colorOf_9 q1094 rfl (by decide) rfl rfl ?_
    cases b
    · exact g_zret O dJ1_colorOf_12 rfl (by first | exact Nat.le_of_ble_eq_true rfl | omega) (by first | exact Nat.le_of_ble_eq_true rfl | omega) ⟨rfl, rfl⟩
    · exact g_zret O dJ1_colorOf_12 rfl (by first | exact Nat.le_of_ble_eq_true rfl | omega) (by first | exact Nat.le_of_ble_eq_true rfl | omega) ⟨rfl, rfl⟩
theorem c_J1_colorOfN (l : Launch) (E : GE) (h : HV) : Cg l E yJ1_colorOf cJ1_colorOf 1 (some .boolean) 0 0 0 [.null] h (fun v h' => v = some (.int (bI true)) ∧ h = h') := by
  refine Cg.of (by first | exact plainFor_of_name (by decide) | decide +kernel) [some .null] (Nat.le_of_ble_eq_true rfl) rfl ?_
  intro p e s m args below meth c O
  refine g_aload_n O dJ1_colorOf_0 rfl (by first | rfl | exact rf_ref _) ?_
  refine g_ifnonnull O 8 dJ1_colorOf_1 (by decide) rfl (fun hc => ?_) (fun hc_a hc => ?_)
  · refine g_iconst O dJ1_colorOf_4 (nI 1) rfl ?_
    refine g_goto O 12 dJ1_colorOf_5 (by decide) ?_
    exact g_zret O dJ1_colorOf_12 rfl (by first | exact Nat.le_of_ble_eq_true rfl | omega) (by first | exact Nat.le_of_ble_eq_true rfl | omega) ⟨rfl, rfl⟩
  · cases hc
theorem bI_fit (b : Bool) : fits .boolean (.int (bI b)) = true ∧ narrow .boolean (.int (bI b)) = .int (bI b) := by cases b <;> exact ⟨rfl, rfl⟩
theorem c_J1_setColor (l : Launch) (E : GE) (h : HV) {a lab k v : Nat} {x y z : Option Nat} {b : Bool} (b' : Bool) (hlab : lab ≠ 0) (ha : h a = some (lab, cEnt k v x y z b)) : Cg l E yJ1_setColor cJ1_setColor 2 none 0 0 0 [.ref a, .int (bI b')] h (fun v' h' => v' = none ∧ hup h a (lab, cEnt k v x y z b') = h') := by
  refine Cg.of (by first | exact plainFor_of_name (by decide) | decide +kernel) [some (.ref a), some (.int (bI b'))] (Nat.le_of_ble_eq_true rfl) rfl ?_
  intro p e s m args below meth c O
  refine g_aload_n O dJ1_setColor_0 rfl (by first | rfl | exact rf_ref _) ?_
  refine g_ifnull O 9 dJ1_setColor_1 (by decide) rfl (fun hc => ?_) (fun hc_a hc => ?_)
  · cases hc
  · refine g_aload_n O dJ1_setColor_4 rfl (by first | rfl | exact rf_ref _) ?_
    refine g_iload_n O dJ1_setColor_5 rfl ?_
    refine g_put O 4 5 rfl ha hlab dJ1_setColor_6 q1094 rfl (by decide) rfl ((bI_fit b').2) ((bI_fit b').1) (by first | exact Nat.le_of_ble_eq_true rfl | omega) ?_
    exact g_vret O dJ1_setColor_9 (by first | exact Nat.le_of_ble_eq_true rfl | omega) (by first | exact Nat.le_of_ble_eq_true rfl | omega) ⟨rfl, rfl⟩
theorem c_J1_rotateLeft (l : Launch) (E : GE) (h : HV) {lab t x y : Nat} {il : List Nat} {K V : Nat → Nat} {lf rt pa : Nat → Option Nat} {co : Nat → Bool} {root : Option Nat} {sz mo : Int32} (ht : t ∉ il) (hlab : lab ≠ 0) (hx : x ∈ il) (hy : rt x = some y) (hyi : y ∈ il) (nxy : x ≠ y) (hl : ∀ b, lf y = some b → b ∈ il ∧ b ≠ x) (hq : ∀ g, pa x = some g → g ∈ il) : Cg l E yJ1_rotateLeft cJ1_rotateLeft 3 none 0 0 0 [.ref t, .ref x] (ov h lab t il K V lf rt pa co root sz mo) (fun v h' => v = none ∧ ov h lab t il K V (rlf lf x y (pa x)) (rrt lf rt x y (pa x)) (rpa lf pa x y (pa x)) co (rroot root y (pa x)) sz mo = h') := by
  refine Cg.of (by first | exact plainFor_of_name (by decide) | decide +kernel) [some (.ref t), some (.ref x), none] (Nat.le_of_ble_eq_true rfl) rfl ?_
  intro p e s m args below meth c O
  refine g_aload_n O dJ1_rotateLeft_0 rfl (by first | rfl | exact rf_ref _) ?_
  refine g_ifnull O 95 dJ1_rotateLeft_1 (by decide) rfl (fun hc => ?_) (fun hc_a hc => ?_)
  · cases hc
  · refine g_aload_n O dJ1_rotateLeft_4 rfl (by first | rfl | exact rf_ref _) ?_
    refine g_get O 4 3 rfl (ov_e ht hx) dJ1_rotateLeft_5 q1090 rfl (by decide) rfl rfl ?_
    rw [hy]
    refine g_astore_n O rfl dJ1_rotateLeft_8 (by first | rfl | exact rf_ref _) (by first | rfl | exact rf_lst ⟨rfl, rfl⟩) ?_
    refine g_aload_n O dJ1_rotateLeft_9 rfl (by first | rfl | exact rf_ref _) ?_
    refine g_aload_n O dJ1_rotateLeft_10 rfl (by first | rfl | exact rf_ref _) ?_
    refine g_get O 4 2 rfl (ov_e ht hyi) dJ1_rotateLeft_11 q1089 rfl (by decide) rfl rfl ?_
    refine g_put O 4 3 rfl (ov_e ht hx) hlab dJ1_rotateLeft_14 q1090 rfl (by decide) rfl (rf_nar _) (rf_fit _) (by first | exact Nat.le_of_ble_eq_true rfl | omega) ?_
    refine Wg.H _ (ov_rt (x := lf y) ht hx) ?_
    have tail2 : ∀ (L1 R1 pa1 : Nat → Option Nat) (root1 : Option Nat), fu L1 y (some x) = rlf lf x y (pa x) → R1 = rrt lf rt x y (pa x) → fu pa1 x (some y) = rpa lf pa x y (pa x) → root1 = rroot root y (pa x) → Wg p l e (rmG 0 0 0) s m args below meth c E (MQ below (gQ E (fun v h' => v = none ∧ ov h lab t il K V (rlf lf x y (pa x)) (rrt lf rt x y (pa x)) (rpa lf pa x y (pa x)) co (rroot root y (pa x)) sz mo = h')) args s 0 0 (gA E)) 85 [some (.ref t), some (.ref x), some (.ref y)] [] (ov h lab t il K V L1 R1 pa1 co root1 sz mo) 0 0 := by
      intro L1 R1 pa1 root1 h1 h2 h3 h4
      refine g_aload_n O dJ1_rotateLeft_85 rfl (by first | rfl | exact rf_ref _) ?_
      refine g_aload_n O dJ1_rotateLeft_86 rfl (by first | rfl | exact rf_ref _) ?_
      refine g_put O 4 2 rfl (ov_e ht hyi) hlab dJ1_rotateLeft_87 q1089 rfl (by decide) rfl rfl rfl (by first | exact Nat.le_of_ble_eq_true rfl | omega) ?_
      refine Wg.H _ (ov_lf (x := some x) ht hyi) ?_
      refine g_aload_n O dJ1_rotateLeft_90 rfl (by first | rfl | exact rf_ref _) ?_
      refine g_aload_n O dJ1_rotateLeft_91 rfl (by first | rfl | exact rf_ref _) ?_
      refine g_put O 4 4 rfl (ov_e ht hx) hlab dJ1_rotateLeft_92 q1092 rfl (by decide) rfl rfl rfl (by first | exact Nat.le_of_ble_eq_true rfl | omega) ?_
      refine Wg.H _ (ov_pa (x := some y) ht hx) ?_
      rw [h1, h2, h3, h4]
      exact g_vret O dJ1_rotateLeft_95 (by first | exact Nat.le_of_ble_eq_true rfl | omega) (by first | exact Nat.le_of_ble_eq_true rfl | omega) ⟨rfl, rfl⟩
    have tail1 : ∀ pa1 : Nat → Option Nat, pa1 x = pa x → fu (fu pa1 y (pa x)) x (some y) = rpa lf pa x y (pa x) → Wg p l e (rmG 0 0 0) s m args below meth c E (MQ below (gQ E (fun v h' => v = none ∧ ov h lab t il K V (rlf lf x y (pa x)) (rrt lf rt x y (pa x)) (rpa lf pa x y (pa x)) co (rroot root y (pa x)) sz mo = h')) args s 0 0 (gA E)) 32 [some (.ref t), some (.ref x), some (.ref y)] [] (ov h lab t il K V lf (fu rt x (lf y)) pa1 co root sz mo) 0 0 := by
      intro pa1 h1 h3
      refine g_aload_n O dJ1_rotateLeft_32 rfl (by first | rfl | exact rf_ref _) ?_
      refine g_aload_n O dJ1_rotateLeft_33 rfl (by first | rfl | exact rf_ref _) ?_
      refine g_get O 4 4 rfl (ov_e ht hx) dJ1_rotateLeft_34 q1092 rfl (by decide) rfl rfl ?_
      rw [h1]
      refine g_put O 4 4 rfl (ov_e ht hyi) hlab dJ1_rotateLeft_37 q1092 rfl (by decide) rfl (rf_nar _) (rf_fit _) (by first | exact Nat.le_of_ble_eq_true rfl | omega) ?_
      refine Wg.H _ (ov_pa (x := pa x) ht hyi) ?_
      refine g_aload_n O dJ1_rotateLeft_40 rfl (by first | rfl | exact rf_ref _) ?_
      refine g_get O 4 4 rfl (ov_e ht hx) dJ1_rotateLeft_41 q1092 rfl (by decide) rfl rfl ?_
      rw [fu_ne nxy, h1]
      refine g_ifnonnull O 55 dJ1_rotateLeft_44 (by decide) (rf_ref _) (fun hc => ?_) (fun hc_a hc => ?_)
      · have hq0 : pa x = none := g_rf_inj (b := none) hc
        refine g_aload_n O dJ1_rotateLeft_47 rfl (by first | rfl | exact rf_ref _) ?_
        refine g_aload_n O dJ1_rotateLeft_48 rfl (by first | rfl | exact rf_ref _) ?_
        refine g_put O 3 3 rfl ov_t hlab dJ1_rotateLeft_49 q111 rfl (by decide) rfl rfl rfl (by first | exact Nat.le_of_ble_eq_true rfl | omega) ?_
        refine Wg.H _ (ov_mp (root' := some y)) ?_
        refine g_goto O 85 dJ1_rotateLeft_52 (by decide) ?_
        refine tail2 _ _ _ _ ?_ ?_ h3 ?_
        · rw [hq0]; rfl
        · rw [hq0]; rfl
        · rw [hq0]; rfl
      · have hq1 : pa x = some hc_a := g_rf_inj (b := some hc_a) hc
        have hgi := hq _ hq1
        refine g_aload_n O dJ1_rotateLeft_55 rfl (by first | rfl | exact rf_ref _) ?_
        refine g_get O 4 4 rfl (ov_e ht hx) dJ1_rotateLeft_56 q1092 rfl (by decide) rfl rfl ?_
        rw [fu_ne nxy, h1, hq1]
        refine g_get O 4 2 rfl (ov_e ht hgi) dJ1_rotateLeft_59 q1089 rfl (by decide) rfl rfl ?_
        refine g_aload_n O dJ1_rotateLeft_62 rfl (by first | rfl | exact rf_ref _) ?_
        refine g_acmp_ne O 77 dJ1_rotateLeft_63 (by decide) (rf_ref _) rfl (fun hc2 => ?_) (fun hc2 => ?_)
        · have hne : lf hc_a ≠ some x := fun z => hc2 (by rw [z]; rfl)
          refine g_aload_n O dJ1_rotateLeft_77 rfl (by first | rfl | exact rf_ref _) ?_
          refine g_get O 4 4 rfl (ov_e ht hx) dJ1_rotateLeft_78 q1092 rfl (by decide) rfl rfl ?_
          rw [fu_ne nxy, h1, hq1]
          refine g_aload_n O dJ1_rotateLeft_81 rfl (by first | rfl | exact rf_ref _) ?_
          refine g_put O 4 3 rfl (ov_e ht hgi) hlab dJ1_rotateLeft_82 q1090 rfl (by decide) rfl rfl rfl (by first | exact Nat.le_of_ble_eq_true rfl | omega) ?_
          refine Wg.H _ (ov_rt (x := some y) ht hgi) ?_
          rw [← hq1]
          refine tail2 _ _ _ _ ?_ ?_ ?_ ?_
          · rw [hq1]; show _ = ite _ _ _; rw [if_neg hne]
          · rw [hq1]; show _ = ite _ _ _; rw [if_neg hne]
          · exact h3
          · rw [hq1]; rfl
        · have hne : lf hc_a = some x := g_rf_inj (b := some x) hc2
          refine g_aload_n O dJ1_rotateLeft_66 rfl (by first | rfl | exact rf_ref _) ?_
          refine g_get O 4 4 rfl (ov_e ht hx) dJ1_rotateLeft_67 q1092 rfl (by decide) rfl rfl ?_
          rw [fu_ne nxy, h1, hq1]
          refine g_aload_n O dJ1_rotateLeft_70 rfl (by first | rfl | exact rf_ref _) ?_
          refine g_put O 4 2 rfl (ov_e ht hgi) hlab dJ1_rotateLeft_71 q1089 rfl (by decide) rfl rfl rfl (by first | exact Nat.le_of_ble_eq_true rfl | omega) ?_
          refine Wg.H _ (ov_lf (x := some y) ht hgi) ?_
          refine g_goto O 85 dJ1_rotateLeft_74 (by decide) ?_
          rw [← hq1]
          refine tail2 _ _ _ _ ?_ ?_ ?_ ?_
          · rw [hq1]; show _ = ite _ _ _; rw [if_pos hne]
          · rw [hq1]; show _ = ite _ _ _; rw [if_pos hne]
          · exact h3
          · rw [hq1]; rfl
    refine g_aload_n O dJ1_rotateLeft_17 rfl (by first | rfl | exact rf_ref _) ?_
    refine g_get O 4 2 rfl (ov_e ht hyi) dJ1_rotateLeft_18 q1089 rfl (by decide) rfl rfl ?_
    refine g_ifnull O 32 dJ1_rotateLeft_21 (by decide) (rf_ref _) (fun hc => ?_) (fun hc_a hc => ?_)
    · have hl0 : lf y = none := g_rf_inj (b := none) hc
      refine tail1 pa rfl ?_
      unfold rpa
      rw [hl0]
    · have hl1 : lf y = some hc_a := g_rf_inj (b := some hc_a) hc
      have hb := hl _ hl1
      refine g_aload_n O dJ1_rotateLeft_24 rfl (by first | rfl | exact rf_ref _) ?_
      refine g_get O 4 2 rfl (ov_e ht hyi) dJ1_rotateLeft_25 q1089 rfl (by decide) rfl rfl ?_
      rw [hl1]
      refine g_aload_n O dJ1_rotateLeft_28 rfl (by first | rfl | exact rf_ref _) ?_
      refine g_put O 4 4 rfl (ov_e ht hb.1) hlab dJ1_rotateLeft_29 q1092 rfl (by decide) rfl rfl rfl (by first | exact Nat.le_of_ble_eq_true rfl | omega) ?_
      refine Wg.H _ (ov_pa (x := some x) ht hb.1) ?_
      rw [← hl1]
      refine tail1 _ (fu_ne (Ne.symm hb.2)) ?_
      unfold rpa
      rw [hl1]
theorem c_J1_rotateRight (l : Launch) (E : GE) (h : HV) {lab t x y : Nat} {il : List Nat} {K V : Nat → Nat} {lf rt pa : Nat → Option Nat} {co : Nat → Bool} {root : Option Nat} {sz mo : Int32} (ht : t ∉ il) (hlab : lab ≠ 0) (hx : x ∈ il) (hy : lf x = some y) (hyi : y ∈ il) (nxy : x ≠ y) (hl : ∀ b, rt y = some b → b ∈ il ∧ b ≠ x) (hq : ∀ g, pa x = some g → g ∈ il) : Cg l E yJ1_rotateRight cJ1_rotateRight 3 none 0 0 0 [.ref t, .ref x] (ov h lab t il K V lf rt pa co root sz mo) (fun v h' => v = none ∧ ov h lab t il K V (rrt rt lf x y (pa x)) (rlf rt x y (pa x)) (rpa rt pa x y (pa x)) co (rroot root y (pa x)) sz mo = h') := by
  refine Cg.of (by first | exact plainFor_of_name (by decide) | decide +kernel) [some (.ref t), some (.ref x), none] (Nat.le_of_ble_eq_true rfl) rfl ?_
  intro p e s m args below meth c O
  refine g_aload_n O dJ1_rotateRight_0 rfl (by first | rfl | exact rf_ref _) ?_
  refine g_ifnull O 95 dJ1_rotateRight_1 (by decide) rfl (fun hc => ?_) (fun hc_a hc => ?_)
  · cases hc
  · refine g_aload_n O dJ1_rotateRight_4 rfl (by first | rfl | exact rf_ref _) ?_
    refine g_get O 4 2 rfl (ov_e ht hx) dJ1_rotateRight_5 q1089 rfl (by decide) rfl rfl ?_
    rw [hy]
    refine g_astore_n O rfl dJ1_rotateRight_8 (by first | rfl | exact rf_ref _) (by first | rfl | exact rf_lst ⟨rfl, rfl⟩) ?_
    refine g_aload_n O dJ1_rotateRight_9 rfl (by first | rfl | exact rf_ref _) ?_
    refine g_aload_n O dJ1_rotateRight_10 rfl (by first | rfl | exact rf_ref _) ?_
    refine g_get O 4 3 rfl (ov_e ht hyi) dJ1_rotateRight_11 q1090 rfl (by decide) rfl rfl ?_
    refine g_put O 4 2 rfl (ov_e ht hx) hlab dJ1_rotateRight_14 q1089 rfl (by decide) rfl (rf_nar _) (rf_fit _) (by first | exact Nat.le_of_ble_eq_true rfl | omega) ?_
    refine Wg.H _ (ov_lf (x := rt y) ht hx) ?_
    have tail2 : ∀ (L1 R1 pa1 : Nat → Option Nat) (root1 : Option Nat), fu L1 y (some x) = rlf rt x y (pa x) → R1 = rrt rt lf x y (pa x) → fu pa1 x (some y) = rpa rt pa x y (pa x) → root1 = rroot root y (pa x) → Wg p l e (rmG 0 0 0) s m args below meth c E (MQ below (gQ E (fun v h' => v = none ∧ ov h lab t il K V (rrt rt lf x y (pa x)) (rlf rt x y (pa x)) (rpa rt pa x y (pa x)) co (rroot root y (pa x)) sz mo = h')) args s 0 0 (gA E)) 85 [some (.ref t), some (.ref x), some (.ref y)] [] (ov h lab t il K V R1 L1 pa1 co root1 sz mo) 0 0 := by
      intro L1 R1 pa1 root1 h1 h2 h3 h4
      refine g_aload_n O dJ1_rotateRight_85 rfl (by first | rfl | exact rf_ref _) ?_
      refine g_aload_n O dJ1_rotateRight_86 rfl (by first | rfl | exact rf_ref _) ?_
      refine g_put O 4 3 rfl (ov_e ht hyi) hlab dJ1_rotateRight_87 q1090 rfl (by decide) rfl rfl rfl (by first | exact Nat.le_of_ble_eq_true rfl | omega) ?_
      refine Wg.H _ (ov_rt (x := some x) ht hyi) ?_
      refine g_aload_n O dJ1_rotateRight_90 rfl (by first | rfl | exact rf_ref _) ?_
      refine g_aload_n O dJ1_rotateRight_91 rfl (by first | rfl | exact rf_ref _) ?_
      refine g_put O 4 4 rfl (ov_e ht hx) hlab dJ1_rotateRight_92 q1092 rfl (by decide) rfl rfl rfl (by first | exact Nat.le_of_ble_eq_true rfl | omega) ?_
      refine Wg.H _ (ov_pa (x := some y) ht hx) ?_
      rw [h1, h2, h3, h4]
      exact g_vret O dJ1_rotateRight_95 (by first | exact Nat.le_of_ble_eq_true rfl | omega) (by first | exact Nat.le_of_ble_eq_true rfl | omega) ⟨rfl, rfl⟩
    have tail1 : ∀ pa1 : Nat → Option Nat, pa1 x = pa x → fu (fu pa1 y (pa x)) x (some y) = rpa rt pa x y (pa x) → Wg p l e (rmG 0 0 0) s m args below meth c E (MQ below (gQ E (fun v h' => v = none ∧ ov h lab t il K V (rrt rt lf x y (pa x)) (rlf rt x y (pa x)) (rpa rt pa x y (pa x)) co (rroot root y (pa x)) sz mo = h')) args s 0 0 (gA E)) 32 [some (.ref t), some (.ref x), some (.ref y)] [] (ov h lab t il K V (fu lf x (rt y)) rt pa1 co root sz mo) 0 0 := by
      intro pa1 h1 h3
      refine g_aload_n O dJ1_rotateRight_32 rfl (by first | rfl | exact rf_ref _) ?_
      refine g_aload_n O dJ1_rotateRight_33 rfl (by first | rfl | exact rf_ref _) ?_
      refine g_get O 4 4 rfl (ov_e ht hx) dJ1_rotateRight_34 q1092 rfl (by decide) rfl rfl ?_
      rw [h1]
      refine g_put O 4 4 rfl (ov_e ht hyi) hlab dJ1_rotateRight_37 q1092 rfl (by decide) rfl (rf_nar _) (rf_fit _) (by first | exact Nat.le_of_ble_eq_true rfl | omega) ?_
      refine Wg.H _ (ov_pa (x := pa x) ht hyi) ?_
      refine g_aload_n O dJ1_rotateRight_40 rfl (by first | rfl | exact rf_ref _) ?_
      refine g_get O 4 4 rfl (ov_e ht hx) dJ1_rotateRight_41 q1092 rfl (by decide) rfl rfl ?_
      rw [fu_ne nxy, h1]
      refine g_ifnonnull O 55 dJ1_rotateRight_44 (by decide) (rf_ref _) (fun hc => ?_) (fun hc_a hc => ?_)
      · have hq0 : pa x = none := g_rf_inj (b := none) hc
        refine g_aload_n O dJ1_rotateRight_47 rfl (by first | rfl | exact rf_ref _) ?_
        refine g_aload_n O dJ1_rotateRight_48 rfl (by first | rfl | exact rf_ref _) ?_
        refine g_put O 3 3 rfl ov_t hlab dJ1_rotateRight_49 q111 rfl (by decide) rfl rfl rfl (by first | exact Nat.le_of_ble_eq_true rfl | omega) ?_
        refine Wg.H _ (ov_mp (root' := some y)) ?_
        refine g_goto O 85 dJ1_rotateRight_52 (by decide) ?_
        refine tail2 _ _ _ _ ?_ ?_ h3 ?_
        · rw [hq0]; rfl
        · rw [hq0]; rfl
        · rw [hq0]; rfl
      · have hq1 : pa x = some hc_a := g_rf_inj (b := some hc_a) hc
        have hgi := hq _ hq1
        refine g_aload_n O dJ1_rotateRight_55 rfl (by first | rfl | exact rf_ref _) ?_
        refine g_get O 4 4 rfl (ov_e ht hx) dJ1_rotateRight_56 q1092 rfl (by decide) rfl rfl ?_
        rw [fu_ne nxy, h1, hq1]
        refine g_get O 4 3 rfl (ov_e ht hgi) dJ1_rotateRight_59 q1090 rfl (by decide) rfl rfl ?_
        refine g_aload_n O dJ1_rotateRight_62 rfl (by first | rfl | exact rf_ref _) ?_
        refine g_acmp_ne O 77 dJ1_rotateRight_63 (by decide) (rf_ref _) rfl (fun hc2 => ?_) (fun hc2 => ?_)
        · have hne : rt hc_a ≠ some x := fun z => hc2 (by rw [z]; rfl)
          refine g_aload_n O dJ1_rotateRight_77 rfl (by first | rfl | exact rf_ref _) ?_
          refine g_get O 4 4 rfl (ov_e ht hx) dJ1_rotateRight_78 q1092 rfl (by decide) rfl rfl ?_
          rw [fu_ne nxy, h1, hq1]
          refine g_aload_n O dJ1_rotateRight_81 rfl (by first | rfl | exact rf_ref _) ?_
          refine g_put O 4 2 rfl (ov_e ht hgi) hlab dJ1_rotateRight_82 q1089 rfl (by decide) rfl rfl rfl (by first | exact Nat.le_of_ble_eq_true rfl | omega) ?_
          refine Wg.H _ (ov_lf (x := some y) ht hgi) ?_
          rw [← hq1]
          refine tail2 _ _ _ _ ?_ ?_ ?_ ?_
          · rw [hq1]; show _ = ite _ _ _; rw [if_neg hne]
          · rw [hq1]; show _ = ite _ _ _; rw [if_neg hne]
          · exact h3
          · rw [hq1]; rfl
        · have hne : rt hc_a = some x := g_rf_inj (b := some x) hc2
          refine g_aload_n O dJ1_rotateRight_66 rfl (by first | rfl | exact rf_ref _) ?_
          refine g_get O 4 4 rfl (ov_e ht hx) dJ1_rotateRight_67 q1092 rfl (by decide) rfl rfl ?_
          rw [fu_ne nxy, h1, hq1]
          refine g_aload_n O dJ1_rotateRight_70 rfl (by first | rfl | exact rf_ref _) ?_
          refine g_put O 4 3 rfl (ov_e ht hgi) hlab dJ1_rotateRight_71 q1090 rfl (by decide) rfl rfl rfl (by first | exact Nat.le_of_ble_eq_true rfl | omega) ?_
          refine Wg.H _ (ov_rt (x := some y) ht hgi) ?_
          refine g_goto O 85 dJ1_rotateRight_74 (by decide) ?_
          rw [← hq1]
          refine tail2 _ _ _ _ ?_ ?_ ?_ ?_
          · rw [hq1]; show _ = ite _ _ _; rw [if_pos hne]
          · rw [hq1]; show _ = ite _ _ _; rw [if_pos hne]
          · exact h3
          · rw [hq1]; rfl
    refine g_aload_n O dJ1_rotateRight_17 rfl (by first | rfl | exact rf_ref _) ?_
    refine g_get O 4 3 rfl (ov_e ht hyi) dJ1_rotateRight_18 q1090 rfl (by decide) rfl rfl ?_
    refine g_ifnull O 32 dJ1_rotateRight_21 (by decide) (rf_ref _) (fun hc => ?_) (fun hc_a hc => ?_)
    · have hl0 : rt y = none := g_rf_inj (b := none) hc
      refine tail1 pa rfl ?_
      unfold rpa
      rw [hl0]
    · have hl1 : rt y = some hc_a := g_rf_inj (b := some hc_a) hc
      have hb := hl _ hl1
      refine g_aload_n O dJ1_rotateRight_24 rfl (by first | rfl | exact rf_ref _) ?_
      refine g_get O 4 3 rfl (ov_e ht hyi) dJ1_rotateRight_25 q1090 rfl (by decide) rfl rfl ?_
      rw [hl1]
      refine g_aload_n O dJ1_rotateRight_28 rfl (by first | rfl | exact rf_ref _) ?_
      refine g_put O 4 4 rfl (ov_e ht hb.1) hlab dJ1_rotateRight_29 q1092 rfl (by decide) rfl rfl rfl (by first | exact Nat.le_of_ble_eq_true rfl | omega) ?_
      refine Wg.H _ (ov_pa (x := some x) ht hb.1) ?_
      rw [← hl1]
      refine tail1 _ (fu_ne (Ne.symm hb.2)) ?_
      unfold rpa
      rw [hl1]
