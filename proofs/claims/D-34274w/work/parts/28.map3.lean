set_option maxRecDepth 100000
/-! TreeMap: get and put -/
theorem cmpW_self : ∀ s : List Nat, cmpW s s = 0
  | [] => rfl
  | a :: s => by rw [cmpW, if_pos rfl]; exact cmpW_self s
theorem cmpW_anti : ∀ s t : List Nat, cmpW s t = - cmpW t s
  | [], [] => rfl
  | [], b :: t => by simp [cmpW]
  | a :: s, [] => by simp [cmpW]
  | a :: s, b :: t => by
    rw [cmpW, cmpW]
    by_cases h : a = b
    · rw [if_pos h, if_pos h.symm]; exact cmpW_anti s t
    · rw [if_neg h, if_neg (Ne.symm h)]; omega
theorem cmpW_zero : ∀ s t : List Nat, cmpW s t = 0 → s = t
  | [], [], _ => rfl
  | [], b :: t, h => by simp [cmpW] at h; omega
  | a :: s, [], h => by simp [cmpW] at h; omega
  | a :: s, b :: t, h => by
    rw [cmpW] at h
    by_cases e : a = b
    · rw [if_pos e] at h; rw [e, cmpW_zero s t h]
    · rw [if_neg e] at h; omega
theorem cmpW_tr : ∀ s t u : List Nat, cmpW s t < 0 → cmpW t u < 0 → cmpW s u < 0
  | _, [], [], h, h2 => by simp [cmpW] at h2
  | _, b :: t, [], h, h2 => by simp [cmpW] at h2; omega
  | [], _, d :: u, h, h2 => by simp [cmpW]
  | a :: s, [], d :: u, h, h2 => by simp [cmpW] at h; omega
  | a :: s, b :: t, d :: u, h, h2 => by
    rw [cmpW] at h h2 ⊢
    by_cases e : a = b
    · rw [if_pos e] at h
      by_cases e2 : b = d
      · rw [if_pos e2] at h2
        rw [if_pos (e.trans e2)]
        exact cmpW_tr s t u h h2
      · rw [if_neg e2] at h2
        rw [if_neg (by omega)]
        omega
    · rw [if_neg e] at h
      by_cases e2 : b = d
      · rw [if_neg (by omega)]; omega
      · rw [if_neg e2] at h2
        rw [if_neg (by omega)]
        omega
/-- what lies to the left of the hole, to the right of it -/
def cA : List (Bool × Nat × List Nat) → List Nat
  | [] => []
  | (d, a, ls) :: cs => if d then cA cs else cA cs ++ (ls ++ [a])
def cB : List (Bool × Nat × List Nat) → List Nat
  | [] => []
  | (d, a, ls) :: cs => if d then a :: ls ++ cB cs else cB cs
theorem plug_ab : ∀ (cs : List (Bool × Nat × List Nat)) (m : List Nat), plug cs m = cA cs ++ m ++ cB cs
  | [], m => by simp [plug, cA, cB]
  | (d, a, ls) :: cs, m => by
    rw [plug, plug_ab cs]
    cases d
    · simp [cA, cB, List.append_assoc]
    · simp [cA, cB, List.append_assoc]
/-- a new leaf -/
theorem Cx.attach {lf rt pa lf1 rt1 pa1 : Nat → Option Nat} {root : Option Nat} {cs : List (Bool × Nat × List Nat)} {d : Bool} {P n : Nat} {ls : List Nat} (h : Cx lf rt pa root ((d, P, ls) :: cs) none (some P)) (hn : n ∉ cel ((d, P, ls) :: cs)) (hN : (cel ((d, P, ls) :: cs)).Nodup)
    (h1 : ∀ b, b ≠ n → b ≠ P → lf1 b = lf b) (h2 : ∀ b, b ≠ n → b ≠ P → rt1 b = rt b) (h3 : ∀ b, b ≠ n → pa1 b = pa b) (h4 : if d then lf1 P = some n ∧ rt1 P = rt P else rt1 P = some n ∧ lf1 P = lf P) : Cx lf1 rt1 pa1 root ((d, P, ls) :: cs) (some n) (some P) := by
  obtain ⟨-, e2, e3⟩ := h
  have hP : ∀ b, b ∈ ls ∨ b ∈ cel cs → b ≠ P ∧ b ≠ n := fun b hb => by
    simp only [cel, List.cons_append, List.nodup_cons, List.mem_append, List.mem_cons] at hN hn
    exact ⟨fun z => hN.1 (z ▸ hb), fun z => hn (Or.inr (z ▸ hb))⟩
  have hPn : P ≠ n := fun z => hn (by simp [cel, z])
  have hk : ∀ b, b ∈ ls ∨ b ∈ cel cs → lf1 b = lf b ∧ rt1 b = rt b ∧ pa1 b = pa b := fun b hb => ⟨h1 b (hP b hb).2 (hP b hb).1, h2 b (hP b hb).2 (hP b hb).1, h3 b (hP b hb).2⟩
  refine ⟨rfl, ?_, ?_⟩
  · cases d
    · simp only [Bool.false_eq_true, if_false] at e2 h4 ⊢
      exact ⟨h4.1, by rw [h4.2]; exact e2.2.congr (fun b hb => hk b (Or.inl hb))⟩
    · simp only [if_true] at e2 h4 ⊢
      exact ⟨h4.1, by rw [h4.2]; exact e2.2.congr (fun b hb => hk b (Or.inl hb))⟩
  · rw [h3 P hPn]
    exact Cx.congr cs e3 (fun b hb => hk b (Or.inr hb))
/-- forget a local -/
theorem Wg.fg {p : Program} {l : Launch} {e : Env} {R : Room} {s : State} {m : MethodId} {args : Array Value} {below : List Frame} {meth : Method} {c : Code} {E : GE} {Q : State → Prop} {pc : Nat} {L : List (Option Value)} {st : List Value} {h : HV} {cells slots : Nat} (i : Nat)
    (kk : Wg p l e R s m args below meth c E Q pc (L.set i none) st h cells slots) : Wg p l e R s m args below meth c E Q pc L st h cells slots := by
  refine Wg.locals (L.set i none) (by simp) (fun j v hj => ?_) kk
  by_cases hi : i = j
  · subst hi
    rw [List.getElem?_set] at hj
    simp only [if_true] at hj
    split at hj <;> cases hj
  · rw [List.getElem?_set_ne hi] at hj
    exact hj
theorem toInt_ge {r : Int32} {z : Int} (h : r.toInt = z) : (0 ≤ r ↔ 0 ≤ z) ∧ (r ≤ 0 ↔ z ≤ 0) := by
  subst h
  exact ⟨by rw [Int32.le_iff_toInt_le]; rfl, by rw [Int32.le_iff_toInt_le]; rfl⟩
/-- a TreeMap, all its parts shown -/
def TB (E : GE) (h : HV) (lab t : Nat) (il : List Nat) (K V : Nat → Nat) (W : Nat → List Nat) (lf rt pa : Nat → Option Nat) (co : Nat → Bool) (root : Option Nat) (sz mo : Int32) : Prop :=
  h t = some (lab, cMap root sz mo) ∧ (∀ a ∈ il, h a = some (lab, cEnt (K a) (V a) (lf a) (rt a) (pa a) (co a))) ∧ Tr lf rt pa root none il ∧ il.Nodup ∧ (∀ r, root = some r → co r = true) ∧ (∀ a ∈ il, Str E h (K a) (W a)) ∧ il.Pairwise (fun a b => cmpW (W a) (W b) < 0)
theorem TB.nt {E : GE} {h : HV} {lab t : Nat} {il : List Nat} {K V : Nat → Nat} {W : Nat → List Nat} {lf rt pa : Nat → Option Nat} {co : Nat → Bool} {root : Option Nat} {sz mo : Int32} (T : TB E h lab t il K V W lf rt pa co root sz mo) : t ∉ il := fun z => by
  have h1 := T.2.1 t z
  rw [T.1] at h1
  cases h1
/-- a TreeMap that answers f -/
def TM (E : GE) (h : HV) (lab t : Nat) (f : List Nat → Option Nat) : Prop :=
  ∃ (il : List Nat) (K V : Nat → Nat) (W : Nat → List Nat) (lf rt pa : Nat → Option Nat) (co : Nat → Bool) (root : Option Nat) (sz mo : Int32), TB E h lab t il K V W lf rt pa co root sz mo ∧ (∀ a ∈ il, f (W a) = some (V a)) ∧ (∀ w r, f w = some r → ∃ a ∈ il, W a = w)
theorem TM.fr {E : GE} {h h' : HV} {lab t : Nat} {f : List Nat → Option Nat} {S : List Nat} (F : Fr S h h') (h0 : 0 ∉ S) (hl : lab ∉ S) (T : TM E h lab t f) : TM E h' lab t f := by
  obtain ⟨il, K, V, W, lf, rt, pa, co, root, sz, mo, ⟨t1, t2, t3, t4, t5, t6, t7⟩, t8⟩ := T
  exact ⟨il, K, V, W, lf, rt, pa, co, root, sz, mo, ⟨F _ _ t1 hl, fun a ha => F _ _ (t2 a ha) hl, t3, t4, t5, fun a ha => (t6 a ha).fr F h0, t7⟩, t8⟩
theorem c_J26_requireNonNull (l : Launch) (E : GE) (h : HV) {a : Nat} : Cg l E yJ26_requireNonNull cJ26_requireNonNull 1 (some (.object "java/lang/Object")) 0 0 0 [.ref a] h (fun v h' => v = some (.ref a) ∧ h = h') := by
  refine Cg.of (by first | exact plainFor_of_name (by decide) | decide +kernel) [some (.ref a)] (Nat.le_of_ble_eq_true rfl) rfl ?_
  intro p e s m args below meth c O
  refine g_aload_n O dJ26_requireNonNull_0 rfl (by first | rfl | exact rf_ref _) ?_
  refine g_ifnonnull O 12 dJ26_requireNonNull_1 (by decide) rfl (fun hc => ?_) (fun hc_a hc => ?_)
  · cases hc
  · refine g_aload_n O dJ26_requireNonNull_12 rfl (by first | rfl | exact rf_ref _) ?_
    exact g_aret O dJ26_requireNonNull_13 (by first | exact Or.inl ⟨_, rfl⟩ | exact Or.inr ⟨_, rfl⟩) (by first | exact Or.inl rfl | exact Or.inr ⟨_, rfl⟩) (by first | exact Nat.le_of_ble_eq_true rfl | omega) (by first | exact Nat.le_of_ble_eq_true rfl | omega) ⟨rfl, rfl⟩
theorem Str.cell {E : GE} {h : HV} {a : Nat} {t : List Nat} (hA : Str E h a t) : ∃ fs, h a = some (0, .inr (15, fs)) := by
  obtain ⟨arr, f, u, v, h1, -⟩ := hA
  exact ⟨_, h1⟩
theorem c_J1_getEntry (l : Launch) (E : GE) (h : HV) {lab t a : Nat} {il : List Nat} {K V : Nat → Nat} {W : Nat → List Nat} {lf rt pa : Nat → Option Nat} {co : Nat → Bool} {root : Option Nat} {sz mo : Int32} {w : List Nat} (T : TB E h lab t il K V W lf rt pa co root sz mo) (hw : Str E h a w) (hn : w.length ≤ 7) : Cg l E yJ1_getEntry cJ1_getEntry 5 (some (.object "java/util/TreeMap$Entry")) 5 0 0 [.ref t, .ref a] h (fun v h' => (∃ o : Option Nat, v = some (va_rf o) ∧ (o = none → ∀ b ∈ il, W b ≠ w) ∧ (∀ b, o = some b → b ∈ il ∧ W b = w)) ∧ h = h') := by
  obtain ⟨t1, t2, t3, t4, t5, t6, t7⟩ := T
  obtain ⟨fs, hcell⟩ := hw.cell
  refine Cg.of (by first | exact plainFor_of_name (by decide) | decide +kernel) [some (.ref t), some (.ref a), none, none, none] (Nat.le_of_ble_eq_true rfl) rfl ?_
  intro p e s m args below meth c O
  refine g_aload_n O dJ1_getEntry_0 rfl (by first | rfl | exact rf_ref _) ?_
  refine g_get O 3 2 rfl t1 dJ1_getEntry_1 q110 rfl (by decide) rfl rfl ?_
  refine g_ifnull O 13 dJ1_getEntry_4 (by decide) rfl (fun hc => ?_) (fun hc_a hc => ?_)
  · refine g_aload_n O dJ1_getEntry_13 rfl (by first | rfl | exact rf_ref _) ?_
    refine g_callS O (n := 1) (c_J26_requireNonNull l E h) rfl dJ1_getEntry_14 q1014 q1015 q73 q1016 (by decide +kernel) rfl rfl (by first | decide | omega) (by decide) (by first | exact Nat.le_of_ble_eq_true rfl | omega) (by first | exact Nat.le_of_ble_eq_true rfl | omega) (by first | exact Nat.le_of_ble_eq_true rfl | omega) (fun v h1 hp => ?_)
    obtain ⟨rfl, rfl⟩ := hp
    refine g_pop O dJ1_getEntry_17 rfl ?_
    refine g_aload_n O dJ1_getEntry_18 rfl (by first | rfl | exact rf_ref _) ?_
    refine g_cast O rfl hcell q1022 q1017 dJ1_getEntry_19 ?_
    refine g_astore_n O rfl dJ1_getEntry_22 (by first | rfl | exact rf_ref _) (by first | rfl | exact rf_lst ⟨rfl, rfl⟩) ?_
    refine g_aload_n O dJ1_getEntry_23 rfl (by first | rfl | exact rf_ref _) ?_
    refine g_get O 3 3 rfl t1 dJ1_getEntry_24 q111 rfl (by decide) rfl rfl ?_
    have loop : ∀ n (x q : Option Nat) (k : List Nat), k.length ≤ n → Tr lf rt pa x q k → (∀ b ∈ k, b ∈ il) → k.Pairwise (fun a b => cmpW (W a) (W b) < 0) → (∀ b ∈ il, W b = w → b ∈ k) → Wg p l e (rmG 5 0 0) s m args below meth c E (MQ below (gQ E (fun v h' => (∃ o : Option Nat, v = some (va_rf o) ∧ (o = none → ∀ b ∈ il, W b ≠ w) ∧ (∀ b, o = some b → b ∈ il ∧ W b = w)) ∧ h = h')) args s 0 0 (gA E)) 28 [some (.ref t), some (.ref a), some (.ref a), some (va_rf x), none] [] h 0 0 := by
      intro n
      induction n with
      | zero =>
        intro x q k hk tk hsub hpw hall
        obtain rfl : k = [] := List.length_eq_zero_iff.mp (by omega)
        rcases tk.inv with ⟨rfl, -⟩ | ⟨b, l1, l2, -, -, z, -⟩
        · refine g_aload_n O dJ1_getEntry_28 rfl (by first | rfl | exact rf_ref _) ?_
          refine g_ifnull O 75 dJ1_getEntry_29 (by decide) rfl (fun hc2 => ?_) (fun hc2_a hc2 => ?_)
          · refine g_null O dJ1_getEntry_75 ?_
            exact g_aret O dJ1_getEntry_76 (by first | exact Or.inl ⟨_, rfl⟩ | exact Or.inr ⟨_, rfl⟩) (by first | exact Or.inl rfl | exact Or.inr ⟨_, rfl⟩) (by first | exact Nat.le_of_ble_eq_true rfl | omega) (by first | exact Nat.le_of_ble_eq_true rfl | omega) ⟨⟨none, rfl, (fun _ b hb hW => absurd (hall b hb hW) List.not_mem_nil), (fun b hb => nomatch hb)⟩, rfl⟩
          · cases hc2
        · simp at z
      | succ n ih =>
        intro x q k hk tk hsub hpw hall
        rcases tk.inv with ⟨rfl, rfl⟩ | ⟨b, l1, l2, rfl, rfl, rfl, tl, tr⟩
        · refine g_aload_n O dJ1_getEntry_28 rfl (by first | rfl | exact rf_ref _) ?_
          refine g_ifnull O 75 dJ1_getEntry_29 (by decide) rfl (fun hc2 => ?_) (fun hc2_a hc2 => ?_)
          · refine g_null O dJ1_getEntry_75 ?_
            exact g_aret O dJ1_getEntry_76 (by first | exact Or.inl ⟨_, rfl⟩ | exact Or.inr ⟨_, rfl⟩) (by first | exact Or.inl rfl | exact Or.inr ⟨_, rfl⟩) (by first | exact Nat.le_of_ble_eq_true rfl | omega) (by first | exact Nat.le_of_ble_eq_true rfl | omega) ⟨⟨none, rfl, (fun _ b hb hW => absurd (hall b hb hW) List.not_mem_nil), (fun b hb => nomatch hb)⟩, rfl⟩
          · cases hc2
        · have hb := hsub b (by simp)
          refine g_aload_n O dJ1_getEntry_28 rfl (by first | rfl | exact rf_ref _) ?_
          refine g_ifnull O 75 dJ1_getEntry_29 (by decide) rfl (fun hc2 => ?_) (fun hc2_a hc2 => ?_)
          · cases hc2
          · refine g_aload_n O dJ1_getEntry_32 rfl (by first | rfl | exact rf_ref _) ?_
            refine g_aload_n O dJ1_getEntry_33 rfl (by first | rfl | exact rf_ref _) ?_
            refine g_get O 4 0 rfl (t2 b hb) dJ1_getEntry_34 q1086 rfl (by decide) rfl rfl ?_
            refine g_callF O (n := 1) (x := ⟨"java/lang/Comparable", "compareTo", "(Ljava/lang/Object;)I"⟩) (c_J9_compareTo_2 l E h hw (t6 b hb) (Or.inl hn)) rfl rfl hcell dJ1_getEntry_37 q1019 q1025 q1023 q51 q1027 q1021 q1026 q1024 q1022 (O.k.2.2.2.2.2.2.2.1 _ (by decide)) (by decide +kernel) rfl rfl (by first | decide | omega) (by decide) (by first | exact Nat.le_of_ble_eq_true rfl | omega) (by first | exact Nat.le_of_ble_eq_true rfl | omega) (by first | exact Nat.le_of_ble_eq_true rfl | omega) (fun v h1 hp => ?_)
            obtain ⟨⟨r, rfl, hr⟩, rfl⟩ := hp
            have hr2 := toInt_ge hr
            rw [List.pairwise_append, List.pairwise_cons] at hpw
            refine g_istore O dJ1_getEntry_42 rfl ?_
            refine g_iload O dJ1_getEntry_44 rfl ?_
            refine g_if_ge O 57 dJ1_getEntry_46 (by decide) (fun hc3 => ?_) (fun hc3 => ?_)
            · refine g_iload O dJ1_getEntry_57 rfl ?_
              refine g_if_le O 70 dJ1_getEntry_59 (by decide) (fun hc4 => ?_) (fun hc4 => ?_)
              · have hz : w = W b := cmpW_zero _ _ (by have := hr2.1.mp hc3; have := hr2.2.mp hc4; omega)
                refine g_aload_n O dJ1_getEntry_70 rfl (by first | rfl | exact rf_ref _) ?_
                exact g_aret O dJ1_getEntry_71 (by first | exact Or.inl ⟨_, rfl⟩ | exact Or.inr ⟨_, rfl⟩) (g_rfO _) (by first | exact Nat.le_of_ble_eq_true rfl | omega) (by first | exact Nat.le_of_ble_eq_true rfl | omega) ⟨⟨some b, rfl, (fun z => nomatch z), (fun b' e => Option.some.inj e ▸ ⟨hb, hz.symm⟩)⟩, rfl⟩
              · refine g_aload_n O dJ1_getEntry_62 rfl (by first | rfl | exact rf_ref _) ?_
                refine g_get O 4 3 rfl (t2 b hb) dJ1_getEntry_63 q1090 rfl (by decide) rfl rfl ?_
                refine g_astore_n O rfl dJ1_getEntry_66 (by first | rfl | exact rf_ref _) (by first | rfl | exact rf_lst ⟨rfl, rfl⟩) ?_
                refine g_goto O 72 dJ1_getEntry_67 (by decide) ?_
                refine g_goto O 28 dJ1_getEntry_72 (by decide) ?_
                refine Wg.fg 4 ?_
                refine ih _ _ l2 (by simp at hk; omega) tr (fun y hy => hsub y (by simp [hy])) hpw.2.1.2 (fun y hy hW => ?_)
                have hlt : ¬ cmpW w (W b) ≤ 0 := fun z => hc4 (hr2.2.mpr z)
                rcases List.mem_append.mp (hall y hy hW) with z | z
                · have := hpw.2.2 y z b (by simp)
                  rw [hW] at this
                  omega
                · rcases List.mem_cons.mp z with z | z
                  · rw [← z, hW, cmpW_self] at hlt; omega
                  · exact z
            · refine g_aload_n O dJ1_getEntry_49 rfl (by first | rfl | exact rf_ref _) ?_
              refine g_get O 4 2 rfl (t2 b hb) dJ1_getEntry_50 q1089 rfl (by decide) rfl rfl ?_
              refine g_astore_n O rfl dJ1_getEntry_53 (by first | rfl | exact rf_ref _) (by first | rfl | exact rf_lst ⟨rfl, rfl⟩) ?_
              refine g_goto O 72 dJ1_getEntry_54 (by decide) ?_
              refine g_goto O 28 dJ1_getEntry_72 (by decide) ?_
              refine Wg.fg 4 ?_
              refine ih _ _ l1 (by simp at hk; omega) tl (fun y hy => hsub y (by simp [hy])) hpw.1 (fun y hy hW => ?_)
              have hlt : ¬ 0 ≤ cmpW w (W b) := fun z => hc3 (hr2.1.mpr z)
              rcases List.mem_append.mp (hall y hy hW) with z | z
              · exact z
              · rcases List.mem_cons.mp z with z | z
                · rw [← z, hW, cmpW_self] at hlt; omega
                · have := hpw.2.1.1 y z
                  rw [hW, cmpW_anti] at this
                  omega
    rcases hroot : root with _ | ρ
    · rw [hroot] at t3
      refine g_astore_n O rfl dJ1_getEntry_27 (by first | rfl | exact rf_ref _) (by first | rfl | exact rf_lst ⟨rfl, rfl⟩) ?_
      exact loop _ none none il (Nat.le_refl _) t3 (fun b hb => hb) t7 (fun b hb _ => hb)
    · rw [hroot] at t3
      refine g_astore_n O rfl dJ1_getEntry_27 (by first | rfl | exact rf_ref _) (by first | rfl | exact rf_lst ⟨rfl, rfl⟩) ?_
      exact loop _ (some ρ) none il (Nat.le_refl _) t3 (fun b hb => hb) t7 (fun b hb _ => hb)
  · cases hc
theorem c_J1_get (l : Launch) (E : GE) (h : HV) {lab t a : Nat} {f : List Nat → Option Nat} {w : List Nat} (T : TM E h lab t f) (hw : Str E h a w) (hn : w.length ≤ 7) : Cg l E yJ1_get cJ1_get 3 (some (.object "java/lang/Object")) 6 0 0 [.ref t, .ref a] h (fun v h' => v = some (va_rf (f w)) ∧ h = h') := by
  obtain ⟨il, K, V, W, lf, rt, pa, co, root, sz, mo, T, hf1, hf2⟩ := T
  refine Cg.of (by first | exact plainFor_of_name (by decide) | decide +kernel) [some (.ref t), some (.ref a), none] (Nat.le_of_ble_eq_true rfl) rfl ?_
  intro p e s m args below meth c O
  refine g_aload_n O dJ1_get_0 rfl (by first | rfl | exact rf_ref _) ?_
  refine g_aload_n O dJ1_get_1 rfl (by first | rfl | exact rf_ref _) ?_
  refine g_callV O (n := 1) (c_J1_getEntry l E h T hw hn) rfl rfl T.1 dJ1_get_2 q840 q841 q842 q41 q843 rfl (by decide +kernel) rfl rfl (by first | decide | omega) (by decide) (by first | exact Nat.le_of_ble_eq_true rfl | omega) (by first | exact Nat.le_of_ble_eq_true rfl | omega) (by first | exact Nat.le_of_ble_eq_true rfl | omega) (fun v h1 hp => ?_)
  obtain ⟨⟨o, rfl, ho1, ho2⟩, rfl⟩ := hp
  cases o with
  | none =>
    have hfw : f w = none := by
      cases z : f w with
      | none => rfl
      | some r => obtain ⟨b, hb, hW⟩ := hf2 w r z; exact absurd hW (ho1 rfl b hb)
    refine g_astore_n O rfl dJ1_get_5 (by first | rfl | exact rf_ref _) (by first | rfl | exact rf_lst ⟨rfl, rfl⟩) ?_
    refine g_aload_n O dJ1_get_6 rfl (by first | rfl | exact rf_ref _) ?_
    refine g_ifnonnull O 14 dJ1_get_7 (by decide) rfl (fun hc => ?_) (fun hc_a hc => ?_)
    · refine g_null O dJ1_get_10 ?_
      refine g_goto O 18 dJ1_get_11 (by decide) ?_
      exact g_aret O dJ1_get_18 (by first | exact Or.inl ⟨_, rfl⟩ | exact Or.inr ⟨_, rfl⟩) (by first | exact Or.inl rfl | exact Or.inr ⟨_, rfl⟩) (by first | exact Nat.le_of_ble_eq_true rfl | omega) (by first | exact Nat.le_of_ble_eq_true rfl | omega) ⟨by rw [hfw]; rfl, rfl⟩
    · cases hc
  | some b =>
    obtain ⟨hb, hW⟩ := ho2 b rfl
    refine g_astore_n O rfl dJ1_get_5 (by first | rfl | exact rf_ref _) (by first | rfl | exact rf_lst ⟨rfl, rfl⟩) ?_
    refine g_aload_n O dJ1_get_6 rfl (by first | rfl | exact rf_ref _) ?_
    refine g_ifnonnull O 14 dJ1_get_7 (by decide) rfl (fun hc => ?_) (fun hc_a hc => ?_)
    · cases hc
    · refine g_aload_n O dJ1_get_14 rfl (by first | rfl | exact rf_ref _) ?_
      refine g_get O 4 1 rfl (T.2.1 b hb) dJ1_get_15 q1088 rfl (by decide) rfl rfl ?_
      exact g_aret O dJ1_get_18 (by first | exact Or.inl ⟨_, rfl⟩ | exact Or.inr ⟨_, rfl⟩) (by first | exact Or.inl rfl | exact Or.inr ⟨_, rfl⟩) (by first | exact Nat.le_of_ble_eq_true rfl | omega) (by first | exact Nat.le_of_ble_eq_true rfl | omega) ⟨by rw [← hW, hf1 b hb]; rfl, rfl⟩
