/-! OWN LAYER: a heap as a function from addresses to labelled cells (hidden: the kit's list of cells, the locals' array, the world's frame); one row an instruction over it. -/
set_option maxRecDepth 100000
abbrev HV : Type := Nat → Option (Nat × va_E)
def hup (h : HV) (a : Nat) (c : Nat × va_E) : HV := fun b => if b = a then some c else h b
theorem hup_self {h : HV} {a : Nat} {c : Nat × va_E} : hup h a c a = some c := if_pos rfl
theorem hup_ne {h : HV} {a b : Nat} {c : Nat × va_E} (n : b ≠ a) : hup h a c b = h b := if_neg n
theorem hup_at {h : HV} {a b : Nat} {c c' : Nat × va_E} (e : hup h a c b = some c') : (b = a ∧ c = c') ∨ (b ≠ a ∧ h b = some c') := by
  by_cases hb : b = a
  · subst hb
    rw [hup_self] at e
    exact Or.inl ⟨rfl, Option.some.inj e⟩
  · rw [hup_ne hb] at e
    exact Or.inr ⟨hb, e⟩
/-- the classes whose objects the worlds hold -/
def TX10 : u_T := fun _ => ("", "", "", false)
def tyX10' : Nat → FieldType := fun _ => .int
abbrev vwCl : List vw_C := [(RX1, TX1, 9), (RX4, TX4, 1), (RX5, TX5, 1), (RJ1, TJ1, 9), (RJ27, TJ27, 6), (RJ4, TJ4, 3), (RJ23, TJ23, 4), (RJ29, TJ29, 4), (RX10, TX10, 0), (RX11, TX11, 3), (RX9, TX9, 4), (RX12, TX12, 5), (RX7, TX7, 2), (RX8, TX8, 2), (RJ12, TJ12, 4), (RJ9, TJ9, 4), (RX6, TX6, 22)]
/-- the classes' numbers -/
abbrev kTrellistag : Nat := 0
abbrev kWords : Nat := 1
abbrev kEndings : Nat := 2
abbrev kTreeMap : Nat := 3
abbrev kEntry : Nat := 4
abbrev kList : Nat := 5
abbrev kItr : Nat := 6
abbrev kQueue : Nat := 7
abbrev kByWeight : Nat := 8
abbrev kPath : Nat := 9
abbrev kTrellis : Nat := 10
abbrev kAll : Nat := 11
abbrev kTagged : Nat := 12
abbrev kText : Nat := 13
abbrev kBuilder : Nat := 14
abbrev kString : Nat := 15
abbrev kModel : Nat := 16
def gty : Nat → Nat → FieldType
  | 0 => tyX1 | 1 => tyX4 | 2 => tyX5 | 3 => tyJ1 | 4 => tyJ27 | 5 => tyJ4 | 6 => tyJ23 | 7 => tyJ29 | 8 => tyX10' | 9 => tyX11 | 10 => tyX9 | 11 => tyX12 | 12 => tyX7 | 13 => tyX8 | 14 => tyJ12 | 15 => tyJ9 | _ => tyX6
theorem vw_in {ci : Nat} {C : String} {T : u_T} {N : Nat} (h : vwCl[ci]? = some (C, T, N)) : ∀ w ∈ u_ws C T N, w ∈ lw_all := by
  match ci, h with
  | 0, h => cases h; exact in_X1
  | 1, h => cases h; exact in_X4
  | 2, h => cases h; exact in_X5
  | 3, h => cases h; exact in_J1
  | 4, h => cases h; exact in_J27
  | 5, h => cases h; exact in_J4
  | 6, h => cases h; exact in_J23
  | 7, h => cases h; exact in_J29
  | 8, h => cases h; exact fun w hw => by cases hw
  | 9, h => cases h; exact in_X11
  | 10, h => cases h; exact in_X9
  | 11, h => cases h; exact in_X12
  | 12, h => cases h; exact in_X7
  | 13, h => cases h; exact in_X8
  | 14, h => cases h; exact in_J12
  | 15, h => cases h; exact in_J9
  | 16, h => cases h; exact in_X6
  | n + 17, h => simp [vwCl] at h
theorem vw_ty {ci : Nat} {C : String} {T : u_T} {N : Nat} (h : vwCl[ci]? = some (C, T, N)) : ∀ k, k < N → parseFieldDescriptor (T k).2.2.1 = some (gty ci k) := by
  match ci, h with
  | 0, h => cases h; exact tyX1_ok
  | 1, h => cases h; exact tyX4_ok
  | 2, h => cases h; exact tyX5_ok
  | 3, h => cases h; exact tyJ1_ok
  | 4, h => cases h; exact tyJ27_ok
  | 5, h => cases h; exact tyJ4_ok
  | 6, h => cases h; exact tyJ23_ok
  | 7, h => cases h; exact tyJ29_ok
  | 8, h => cases h; exact fun k hk => absurd hk (Nat.not_lt_zero _)
  | 9, h => cases h; exact tyX11_ok
  | 10, h => cases h; exact tyX9_ok
  | 11, h => cases h; exact tyX12_ok
  | 12, h => cases h; exact tyX7_ok
  | 13, h => cases h; exact tyX8_ok
  | 14, h => cases h; exact tyJ12_ok
  | 15, h => cases h; exact tyJ9_ok
  | 16, h => cases h; exact tyX6_ok
  | n + 17, h => simp [vwCl] at h
theorem vw_nm {ci : Nat} {C : String} {T : u_T} {N : Nat} (h : vwCl[ci]? = some (C, T, N)) : ∀ a, a < N → ∀ b, b < N → a ≠ b → (T a).2.1 ≠ (T b).2.1 := by
  match ci, h with
  | 0, h => cases h; exact nmX1
  | 1, h => cases h; exact nmX4
  | 2, h => cases h; exact nmX5
  | 3, h => cases h; exact nmJ1
  | 4, h => cases h; exact nmJ27
  | 5, h => cases h; exact nmJ4
  | 6, h => cases h; exact nmJ23
  | 7, h => cases h; exact nmJ29
  | 8, h => cases h; exact fun k hk => absurd hk (Nat.not_lt_zero _)
  | 9, h => cases h; exact nmX11
  | 10, h => cases h; exact nmX9
  | 11, h => cases h; exact nmX12
  | 12, h => cases h; exact nmX7
  | 13, h => cases h; exact nmX8
  | 14, h => cases h; exact nmJ12
  | 15, h => cases h; exact nmJ9
  | 16, h => cases h; exact nmX6
  | n + 17, h => simp [vwCl] at h
/-- what is the same all through a run: the classes' numbers and slots; the array classes; the first address that is the run's own; addresses of constants (0: the text "", 1: its bytes, 2: ArrayList's empty array, 3: the Class object of Object[]) -/
abbrev GE : Type := va_G × (Nat → ClassId) × Nat × (Nat → Nat)
abbrev gB (E : GE) : Nat := E.2.2.1
abbrev gc (E : GE) : Nat → Nat := E.2.2.2
abbrev gA (E : GE) : Nat → Prop := fun q => E.2.2.1 ≤ q
abbrev aI (E : GE) : ClassId := E.2.1 0
abbrev aJ (E : GE) : ClassId := E.2.1 1
abbrev aZ (E : GE) : ClassId := E.2.1 2
abbrev aB (E : GE) : ClassId := E.2.1 3
abbrev aO (E : GE) : ClassId := E.2.1 4
abbrev aII (E : GE) : ClassId := E.2.1 5
abbrev aJJ (E : GE) : ClassId := E.2.1 6
abbrev gtys (E : GE) : List (ClassId × FieldType) := [(E.2.1 0, .int), (E.2.1 1, .long), (E.2.1 2, .boolean), (E.2.1 3, .byte), (E.2.1 4, .object "java/lang/Object"), (E.2.1 5, .array .int), (E.2.1 6, .array .long)]
/-- words that are not in the methods' list, but hold on -/
def gmov : Cond → Bool
  | .fieldLinkNest .. => true
  | .methodLinkNest .. => true
  | .declares _ => true
  | .castable .. => true
  | .publicMethod _ => true
  | .privateMethod _ => true
  | .unhidden .. => true
  | _ => false
theorem gmov_use {w : Cond} (g : gmov w = true) {A : Array Value} {U : State} (h : va_Nw w U) : w.before A U = true := by
  cases w <;> first | exact va_Nw.use rfl h | (exact absurd g (by simp [gmov]))
theorem gmov_of {w : Cond} (g : gmov w = true) {A : Array Value} {U : State} (h : w.before A U = true) : va_Nw w U := by
  cases w <;> first | exact va_Nw.of rfl h | (exact absurd g (by simp [gmov]))
theorem gmov_warm {w : Cond} (g : gmov w = true) {s U : State} (hW : s.WarmedH U.vm) (h : va_Nw w s) : va_Nw w U := by
  cases w with
  | fieldLinkNest a b c d e f => exact va_Nw.warmF hW h
  | methodLinkNest a b c d => exact va_Nw.warmM hW h
  | declares x => exact va_Nw.warmD hW h
  | castable a b => exact va_Nw.warmC hW h
  | privateMethod x => exact va_tabs rfl (rfl : (s.setVm U.vm).vm = U.vm) (by rw [Cond.privateMethod_setVm hW.alike]; exact h)
  | publicMethod x => exact va_tabs rfl (rfl : (s.setVm U.vm).vm = U.vm) (by rw [Cond.publicMethod_setVm hW.alike]; exact h)
  | unhidden a b c => exact va_tabs rfl (rfl : (s.setVm U.vm).vm = U.vm) (by rw [Cond.unhidden_setVm hW.alike]; exact h)
  | _ => exact absurd g (by simp [gmov])
/-- an arrayOver word holds on -/
theorem g_AO_moved {ty : FieldType} {u U : State} (hvm : u.vm.Alike U.vm) (h : (Cond.arrayOver (.array ty)).before #[] u = true) : (Cond.arrayOver (.array ty)).before #[] U = true := by
  simp only [Cond.before, Cond.holds, Cond.value, beq_iff_eq] at h
  cases hc : u.vm.findClass (FieldType.array ty).toString with
  | none => simp [hc] at h
  | some comp =>
    simp only [hc, Option.bind_some, Option.bind_eq_some_iff, Option.map_eq_some_iff] at h
    obtain ⟨c, hi, k, hk, hb⟩ := h
    obtain ⟨k', hk', he⟩ := hvm.2.2 _ _ hk
    have hbe : U.vm.bare = u.vm.bare := by first | exact hvm.bare_eq | exact hvm.bare_eq.symm
    have e1 := va_idx_bare U.vm comp
    rw [hbe] at e1
    have hi' := e1.symm.trans ((va_idx_bare u.vm comp).trans hi)
    have f1 : U.vm.findClass (FieldType.array ty).toString = some comp := by rw [hvm.findClass]; exact hc
    have hkind : k'.kind = k.kind := by rw [he]
    have f2 : U.vm.findClass ("[" ++ (FieldType.array ty).toString) = u.vm.findClass ("[" ++ (FieldType.array ty).toString) := by rw [hvm.findClass]
    unfold Cond.before Cond.holds
    simp only [Cond.value]
    rw [f1, Option.bind_some]
    refine (congrArg (fun o : Option Nat => (o.bind (fun c => (U.vm.classes[c]?).map fun (k : Class) => match k.kind with | .array _ t => decide (t = FieldType.array ty) && decide (U.vm.findClass ("[" ++ (FieldType.array ty).toString) = some c) | _ => false) == some true)) hi').trans ?_
    simp only [Option.bind_some, hk', Option.map_some, f2, hkind]
    exact congrArg (fun b => some b == some true) hb
/-- an interfaceMethod word holds on -/
theorem g_IM_moved {x : MethodName} (hx : x.cls ≠ "java/lang/invoke/MethodHandle" ∧ x.cls ≠ "java/lang/invoke/VarHandle") {u U : State} (hvm : u.vm.Alike U.vm) (hd : va_Nw (.declares x) u) (h : (Cond.interfaceMethod x.cls x.cls x.name x.desc).before #[] u = true) : (Cond.interfaceMethod x.cls x.cls x.name x.desc).before #[] U = true := by
  obtain ⟨r, meth, hn, -⟩ := Cond.declares_spec (show (Cond.declares x).before #[] u = true from hd)
  exact va_tabs rfl (rfl : (u.setVm U.vm).vm = U.vm) (by rw [Cond.interfaceMethod_setVm hvm (r := r) hn hx]; exact h)
/-- what the tables say all through a run -/
def gK (E : GE) (U : State) : Prop :=
  va_K E.1 vwCl (gtys E) U ∧ (∀ w ∈ lw_tbl, gmov w = true → va_Nw w U) ∧ vk_R RX1 69 "" (gc E 0) U ∧ va_Mi "[Ljava/lang/Object;" (gc E 3) U ∧
  va_AO "java/lang/Object" U ∧ (Cond.arrayOver (.array .int)).before #[] U = true ∧ (Cond.arrayOver (.array .long)).before #[] U = true ∧
  (∀ x ∈ ([⟨"java/util/List", "size", "()I"⟩, ⟨"java/util/List", "isEmpty", "()Z"⟩, ⟨"java/util/List", "remove", "(I)Ljava/lang/Object;"⟩, ⟨"java/util/List", "iterator", "()Ljava/util/Iterator;"⟩, ⟨"java/util/List", "add", "(Ljava/lang/Object;)Z"⟩, ⟨"java/util/List", "get", "(I)Ljava/lang/Object;"⟩, ⟨"java/util/List", "add", "(ILjava/lang/Object;)V"⟩, ⟨"java/util/Iterator", "hasNext", "()Z"⟩, ⟨"java/util/Iterator", "next", "()Ljava/lang/Object;"⟩, ⟨"java/util/Comparator", "compare", "(Ljava/lang/Object;Ljava/lang/Object;)I"⟩, ⟨"java/lang/Comparable", "compareTo", "(Ljava/lang/Object;)I"⟩] : List MethodName), (Cond.interfaceMethod x.cls x.cls x.name x.desc).before #[] U = true) ∧
  (va_Nc "java/lang/IllegalStateException" "java/lang/IllegalArgumentException" U ∧ va_Nc "java/lang/IllegalStateException" "java/lang/IndexOutOfBoundsException" U)
/-- what the heap below the run's own addresses holds -/
def gH (E : GE) (U : State) (H : Heap) : Prop :=
  va_Z RJ9 "COMPACT_STRINGS" "Z" (.int 1) (gA E) U H ∧ va_Z RJ4 "DEFAULTCAPACITY_EMPTY_ELEMENTDATA" "[Ljava/lang/Object;" (.ref (gc E 2)) (gA E) U H ∧
  vx_Zq Bundle.tN "UNASSIGNED_STACK" Bundle.steD (gA E) U H ∧ vx_Zq Bundle.tN "SUPPRESSED_SENTINEL" Bundle.listD (gA E) U H ∧
  va_O RJ9 (gc E 0) (gA E) U H ∧ va_OF RJ9 "coder" "B" (.int 0) (gc E 0) (gA E) U H ∧ va_OF RJ9 "value" "[B" (.ref (gc E 1)) (gc E 0) (gA E) U H ∧ va_T .byte (gc E 1) 0 (fun _ => .int 0) (gA E) U H ∧
  va_T (.object "java/lang/Object") (gc E 2) 0 (fun _ => .null) (gA E) U H ∧ va_Zq "jdk/internal/util/Preconditions" "SIOOBE_FORMATTER" "Ljava/util/function/BiFunction;" (gA E) U H
theorem gH.kept {E : GE} {U : State} {H H1 : Heap} (h : gH E U H) (hq : ∀ a : Nat, a < H.size → ¬ gA E a → H1[a]? = H[a]?) : gH E U H1 := by
  obtain ⟨h1, h2, h3, h4, h5, h6, h7, h8, h9, h10⟩ := h
  exact ⟨h1.kept hq, h2.kept hq, h3.kept hq, h4.kept hq, h5.kept hq, h6.kept hq, h7.kept hq, h8.kept hq, h9.kept hq, h10.kept hq⟩
theorem gH.moved {E : GE} {u U : State} {H : Heap} (hvm : u.vm.Alike U.vm) (h : gH E u H) : gH E U H := by
  obtain ⟨h1, h2, h3, h4, h5, h6, h7, h8, h9, h10⟩ := h
  exact ⟨h1.moved hvm, h2.moved hvm, h3.moved hvm, h4.moved hvm, h5.moved hvm, h6.moved hvm, h7.moved hvm, h8.moved hvm, h9.moved hvm, h10.moved hvm⟩
theorem gK.warm {E : GE} {s U : State} (hW : s.WarmedH U.vm) (h : gK E s) : gK E U := by
  obtain ⟨h1, h2, h3, ⟨c, k, m1, m2, m3⟩, h5, h6, h7, h8, h9, h10⟩ := h
  refine ⟨h1.moved hW.alike, fun w hw g => gmov_warm g hW (h2 w hw g), h3.warm hW, ?_, h5.moved hW.alike, g_AO_moved hW.alike h6, g_AO_moved hW.alike h7, ?_, h9.moved hW.alike, h10.moved hW.alike⟩
  · obtain ⟨k', q1, q2, q3⟩ := hW.mirror m2
    exact ⟨c, k', by rw [hW.alike.findClass]; exact m1, q1, by rw [q2]; exact m3⟩
  · intro x hx
    have hi := h8 x hx
    simp only [List.mem_cons, List.not_mem_nil, or_false] at hx
    rcases hx with rfl | rfl | rfl | rfl | rfl | rfl | rfl | rfl | rfl | rfl | rfl
    · exact g_IM_moved ⟨by decide, by decide⟩ hW.alike (h2 _ q216 rfl) hi
    · exact g_IM_moved ⟨by decide, by decide⟩ hW.alike (h2 _ q226 rfl) hi
    · exact g_IM_moved ⟨by decide, by decide⟩ hW.alike (h2 _ q235 rfl) hi
    · exact g_IM_moved ⟨by decide, by decide⟩ hW.alike (h2 _ q261 rfl) hi
    · exact g_IM_moved ⟨by decide, by decide⟩ hW.alike (h2 _ q742 rfl) hi
    · exact g_IM_moved ⟨by decide, by decide⟩ hW.alike (h2 _ q1188 rfl) hi
    · exact g_IM_moved ⟨by decide, by decide⟩ hW.alike (h2 _ q1489 rfl) hi
    · exact g_IM_moved ⟨by decide, by decide⟩ hW.alike (h2 _ q289 rfl) hi
    · exact g_IM_moved ⟨by decide, by decide⟩ hW.alike (h2 _ q299 rfl) hi
    · exact g_IM_moved ⟨by decide, by decide⟩ hW.alike (h2 _ q851 rfl) hi
    · exact g_IM_moved ⟨by decide, by decide⟩ hW.alike (h2 _ q1021 rfl) hi
/-- a cell that is never written: a constant -/
def gRO (E : GE) (a : Nat) (e : va_E) : Prop :=
  (a = gc E 0 ∧ ∃ u v, e = .inr (kString, [.ref (gc E 1), .int 0, u, v])) ∨ (a = gc E 1 ∧ e = .inl (aB E, 0, .inl (fun _ => 0))) ∨ (a = gc E 2 ∧ e = .inl (aO E, 0, .inr (.inr (.inr (.inr (fun _ => none))))))
/-- the heap H has the cells h -/
def HP (E : GE) (h : HV) (H : Heap) : Prop := ∃ ws : va_W, va_P E.1 vwCl ws H ∧ va_D (gA E) ws ∧ ∀ (a : Nat) (c : Nat × va_E), h a = some c → (a, c.2) ∈ ws ∨ (c.1 = 0 ∧ gRO E a c.2)
theorem HP.less {E : GE} {h h' : HV} {H : Heap} (hp : HP E h H) (hs : ∀ (a : Nat) (c : Nat × va_E), h' a = some c → h a = some c) : HP E h' H := by
  obtain ⟨ws, h1, h2, h3⟩ := hp
  exact ⟨ws, h1, h2, fun a c e => h3 a c (hs a c e)⟩
/-- labels are the reader's own: a cell that is not a constant may get another -/
theorem HP.label {E : GE} {h h' : HV} {H : Heap} (hp : HP E h H) (hs : ∀ (a : Nat) (c : Nat × va_E), h' a = some c → ∃ l, h a = some (l, c.2) ∧ (l = 0 → c.1 = 0)) : HP E h' H := by
  obtain ⟨ws, h1, h2, h3⟩ := hp
  refine ⟨ws, h1, h2, fun a c e => ?_⟩
  obtain ⟨l, q1, q2⟩ := hs a c e
  rcases h3 a _ q1 with h | ⟨h, h'⟩
  · exact Or.inl h
  · exact Or.inr ⟨q2 h, h'⟩
/-- the locals as a list by their numbers: none for one that is not known -/
def lprs : Nat → List (Option Value) → List (Nat × Value)
  | _, [] => []
  | i, none :: L => lprs (i + 1) L
  | i, some v :: L => (i, v) :: lprs (i + 1) L
theorem lprs_mem : ∀ (L : List (Option Value)) (i j : Nat) (v : Value), (j, v) ∈ lprs i L ↔ i ≤ j ∧ L[j - i]? = some (some v) := by
  intro L
  induction L with
  | nil => intro i j v; simp [lprs]
  | cons x L ih =>
    intro i j v
    cases x with
    | none =>
      rw [lprs, ih]
      constructor
      · rintro ⟨h1, h2⟩
        refine ⟨by omega, ?_⟩
        rw [show j - i = (j - (i + 1)) + 1 by omega, List.getElem?_cons_succ]
        exact h2
      · rintro ⟨h1, h2⟩
        by_cases h : j = i
        · subst h
          simp at h2
        · refine ⟨by omega, ?_⟩
          rw [show j - i = (j - (i + 1)) + 1 by omega, List.getElem?_cons_succ] at h2
          exact h2
    | some w =>
      rw [lprs, List.mem_cons, ih]
      constructor
      · rintro (h | ⟨h1, h2⟩)
        · cases h
          simp
        · refine ⟨by omega, ?_⟩
          rw [show j - i = (j - (i + 1)) + 1 by omega, List.getElem?_cons_succ]
          exact h2
      · rintro ⟨h1, h2⟩
        by_cases h : j = i
        · subst h
          simp at h2
          exact Or.inl (by rw [h2])
        · refine Or.inr ⟨by omega, ?_⟩
          rw [show j - i = (j - (i + 1)) + 1 by omega, List.getElem?_cons_succ] at h2
          exact h2
def lhas (ls : Array Slot) (L : List (Option Value)) : Prop := lv_has ls L.length (lprs 0 L)
theorem lhas_at {ls : Array Slot} {L : List (Option Value)} (h : lhas ls L) {i : Nat} {v : Value} (hi : L[i]? = some (some v)) : ls[i]? = some (.val v) :=
  h.2.2 (i, v) ((lprs_mem L 0 i v).mpr ⟨Nat.zero_le _, hi⟩)
/-- no long begins just ahead of local i -/
def lok (L : List (Option Value)) : Nat → Bool
  | 0 => true
  | i + 1 => match L[i]? with
    | some (some v) => v.category == 1
    | _ => true
theorem lok_spec {L : List (Option Value)} {i : Nat} (h : lok L i = true) {j : Nat} {v : Value} (hj : L[j]? = some (some v)) (e : j + 1 = i) : ¬ v.category = 2 := by
  subst e
  simp only [lok, hj, beq_iff_eq] at h
  omega
/-- a value of n words may be put into local i -/
def lst (L : List (Option Value)) (i n : Nat) : Bool := Nat.ble (i + n) L.length && lok L i
theorem lst_n {L : List (Option Value)} {i n : Nat} (h : lst L i (n + 1) = true) : i + n < L.length := by
  have := Nat.le_of_ble_eq_true (Bool.and_eq_true_iff.mp h).1
  omega
theorem lst_k {L : List (Option Value)} {i n : Nat} (h : lst L i n = true) : lok L i = true := (Bool.and_eq_true_iff.mp h).2
theorem lset1 {ls' : Array Slot} {L : List (Option Value)} {i : Nat} {v : Value} (hi : i < L.length) (hk : lok L i = true)
    (h : lv_has ls' L.length ((i, v) :: (lprs 0 L).filter (fun q => !(q.1 == i) && !(q.1 + 1 == i && q.2.category == 2)))) : lhas ls' (L.set i (some v)) := by
  refine ⟨by rw [List.length_set]; exact h.1, h.2.1, ?_⟩
  rintro ⟨j, w⟩ hq
  obtain ⟨-, hj⟩ := (lprs_mem _ 0 j w).mp hq
  simp only [Nat.sub_zero] at hj
  by_cases e : j = i
  · subst e
    rw [List.getElem?_set_self hi] at hj
    cases hj
    exact h.2.2 _ List.mem_cons_self
  · rw [List.getElem?_set_ne (fun z => e z.symm)] at hj
    refine h.2.2 (j, w) (List.mem_cons_of_mem _ (List.mem_filter.mpr ⟨(lprs_mem L 0 j w).mpr ⟨Nat.zero_le _, hj⟩, ?_⟩))
    have hc : ¬ (j + 1 = i ∧ w.category = 2) := fun z => lok_spec hk hj z.1 z.2
    simp only [Bool.and_eq_true, Bool.not_eq_true', beq_eq_false_iff_ne, ne_eq, Bool.and_eq_false_iff]
    refine ⟨e, ?_⟩
    by_cases z : j + 1 = i
    · exact Or.inr (fun z2 => hc ⟨z, z2⟩)
    · exact Or.inl z
theorem lset2 {ls' : Array Slot} {L : List (Option Value)} {i : Nat} {v : Value} (hi : i + 1 < L.length) (hk : lok L i = true)
    (h : lv_has ls' L.length ((i, v) :: (lprs 0 L).filter (fun q => !(q.1 == i) && (!(q.1 == i + 1) && !(q.1 + 1 == i && q.2.category == 2))))) : lhas ls' ((L.set i (some v)).set (i + 1) none) := by
  refine ⟨by rw [List.length_set, List.length_set]; exact h.1, h.2.1, ?_⟩
  rintro ⟨j, w⟩ hq
  obtain ⟨-, hj⟩ := (lprs_mem _ 0 j w).mp hq
  simp only [Nat.sub_zero] at hj
  by_cases e1 : j = i + 1
  · subst e1
    rw [List.getElem?_set_self (by rw [List.length_set]; exact hi)] at hj
    cases hj
  · rw [List.getElem?_set_ne (fun z => e1 z.symm)] at hj
    by_cases e : j = i
    · subst e
      rw [List.getElem?_set_self (by omega)] at hj
      cases hj
      exact h.2.2 _ List.mem_cons_self
    · rw [List.getElem?_set_ne (fun z => e z.symm)] at hj
      refine h.2.2 (j, w) (List.mem_cons_of_mem _ (List.mem_filter.mpr ⟨(lprs_mem L 0 j w).mpr ⟨Nat.zero_le _, hj⟩, ?_⟩))
      have hc : ¬ (j + 1 = i ∧ w.category = 2) := fun z => lok_spec hk hj z.1 z.2
      simp only [Bool.and_eq_true, Bool.not_eq_true', beq_eq_false_iff_ne, ne_eq, Bool.and_eq_false_iff]
      refine ⟨e, e1, ?_⟩
      by_cases z : j + 1 = i
      · exact Or.inr (fun z2 => hc ⟨z, z2⟩)
      · exact Or.inl z
theorem lhas_less {ls : Array Slot} {L L' : List (Option Value)} (h : lhas ls L) (hl : L'.length = L.length) (hs : ∀ (i : Nat) (v : Value), L'[i]? = some (some v) → L[i]? = some (some v)) : lhas ls L' := by
  refine ⟨by rw [hl]; exact h.1, h.2.1, ?_⟩
  rintro ⟨j, w⟩ hq
  obtain ⟨-, hj⟩ := (lprs_mem _ 0 j w).mp hq
  exact lhas_at h (hs j w hj)
/-- the locals with which a method begins -/
def gent : List Value → List (Option Value)
  | [] => []
  | v :: vs => if v.category = 2 then some v :: none :: gent vs else some v :: gent vs
/-- the room of a contract at level lev -/
abbrev rmG (lev mc ms : Nat) : Room := { frames := lev, cells := mc, slots := ms, locals := 40 * lev }
/-- what holds all through a method's walk -/
def OK (p : Program) (s : State) (m : MethodId) (args : Array Value) (meth : Method) (c : Code) (cc : ByteArray) (own : String) (nL : Nat) (ret : Option FieldType) (yn : String) (E : GE) : Prop :=
  p.tables.exec = Jvm.exec ∧ c.code = cc ∧ s.vm.findClass own = some m.cls ∧ c.maxLocals = nL ∧ (∀ w ∈ lw_all, w.before args s = true) ∧ meth.locks = false ∧ meth.sig.returnType = ret ∧ meth.name = yn ∧ gK E s ∧ gH E s s.heap ∧ gB E ≤ s.heap.size
section GOK
variable {p : Program} {s : State} {m : MethodId} {args : Array Value} {meth : Method} {c : Code} {cc : ByteArray} {own : String} {nL : Nat} {ret : Option FieldType} {yn : String} {E : GE}
theorem OK.x (O : OK p s m args meth c cc own nL ret yn E) : p.tables.exec = Jvm.exec := O.1
theorem OK.b (O : OK p s m args meth c cc own nL ret yn E) : c.code = cc := O.2.1
theorem OK.ow (O : OK p s m args meth c cc own nL ret yn E) : s.vm.findClass own = some m.cls := O.2.2.1
theorem OK.ml (O : OK p s m args meth c cc own nL ret yn E) : c.maxLocals = nL := O.2.2.2.1
theorem OK.ts (O : OK p s m args meth c cc own nL ret yn E) : ∀ w ∈ lw_all, w.before args s = true := O.2.2.2.2.1
theorem OK.lk (O : OK p s m args meth c cc own nL ret yn E) : meth.locks = false := O.2.2.2.2.2.1
theorem OK.r (O : OK p s m args meth c cc own nL ret yn E) : meth.sig.returnType = ret := O.2.2.2.2.2.2.1
theorem OK.nm (O : OK p s m args meth c cc own nL ret yn E) : meth.name = yn := O.2.2.2.2.2.2.2.1
theorem OK.k (O : OK p s m args meth c cc own nL ret yn E) : gK E s := O.2.2.2.2.2.2.2.2.1
theorem OK.h (O : OK p s m args meth c cc own nL ret yn E) : gH E s s.heap := O.2.2.2.2.2.2.2.2.2.1
theorem OK.sz (O : OK p s m args meth c cc own nL ret yn E) : gB E ≤ s.heap.size := O.2.2.2.2.2.2.2.2.2.2
theorem OK.K (O : OK p s m args meth c cc own nL ret yn E) : va_K E.1 vwCl (gtys E) s := O.k.1
theorem OK.spec (O : OK p s m args meth c cc own nL ret yn E) {w : Cond} (h : w ∈ lw_tbl) (g : gmov w = true) : w.before args s = true := gmov_use g (O.k.2.1 w h g)
theorem OK.nw (O : OK p s m args meth c cc own nL ret yn E) {w : Cond} (h : w ∈ lw_tbl) (g : gmov w = true) : va_Nw w s := O.k.2.1 w h g
theorem OK.fw (O : OK p s m args meth c cc own nL ret yn E) : ∀ q : Nat, s.heap.size ≤ q → gA E q := fun _ h => Nat.le_trans O.sz h
end GOK
/-- the machine at pc, with the locals L, the stack st and the heap's cells h, comes to a state with Q -/
def Wg (p : Program) (l : Launch) (e : Env) (R : Room) (s : State) (m : MethodId) (args : Array Value) (below : List Frame) (meth : Method) (c : Code) (E : GE) (Q : State → Prop) (pc : Nat) (L : List (Option Value)) (st : List Value) (h : HV) (cells slots : Nat) : Prop :=
  ∀ (H : Heap) (locs : List Loc) (ls : Array Slot), HP E h H → va_S (gA E) s.heap H locs → lhas ls L → W p l e R s m args below meth c H locs cells slots Q (F0 m pc ls st)
/-- a contract: from the cells h, with the arguments av, the method returns; what it answers and the cells behind it are as 'post' says -/
def gQ (E : GE) (post : Option Value → HV → Prop) : Array Value → State → Outcome → State → Prop := fun _ st oc t => (∃ (v : Option Value) (h' : HV), oc = .returned v ∧ post v h' ∧ HP E h' t.heap) ∧ va_F (gA E) st t
def gP (E : GE) (av : List Value) (h : HV) : Array Value → State → Prop := va_Pc av (fun U => gK E U ∧ gH E U U.heap ∧ gB E ≤ U.heap.size ∧ HP E h U.heap)
def Cg (l : Launch) (E : GE) (y : MethodName) (cc : ByteArray) (maxL : Nat) (ret : Option FieldType) (lev mc ms : Nat) (av : List Value) (h : HV) (post : Option Value → HV → Prop) : Prop :=
  Met l y (ws_ y cc maxL ret) (rmG lev mc ms) (gP E av h) (gQ E post) mc ms (gA E)
theorem gP_blind {E : GE} {av : List Value} {h : HV} : FrameBlind (gP E av h) := fun a U g mk q => by
  obtain ⟨q0, q1, q2, q3, q4⟩ := q
  exact ⟨q0, gK.warm (s := U) (U := U.calling g mk a) (State.WarmedH.refl U) q1, q2.moved (Vm.Alike.refl U.vm), q3, q4⟩
theorem HP.warm {E : GE} {s U : State} {H : Heap} {locs : List Loc} (hk : gK E s) (hh : gH E s s.heap) (hz : gB E ≤ s.heap.size) (hS : va_S (gA E) s.heap H locs) (hU : U.heap = H) (hW : s.WarmedH U.vm) : gK E U ∧ gH E U U.heap ∧ gB E ≤ U.heap.size := by
  refine ⟨hk.warm hW, ?_, by rw [hU]; exact Nat.le_trans hz hS.1⟩
  rw [hU]
  exact (hh.kept hS.2.1).moved hW.alike
theorem Wg.wide {p : Program} {l : Launch} {e : Env} {R : Room} {s : State} {m : MethodId} {args : Array Value} {below : List Frame} {meth : Method} {c : Code} {E : GE} {Q : State → Prop} {pc : Nat} {L : List (Option Value)} {st : List Value} {h : HV} {cells slots : Nat} (k n : Nat) (h1 : cells ≤ k) (h2 : slots ≤ n)
    (kk : Wg p l e R s m args below meth c E Q pc L st h k n) : Wg p l e R s m args below meth c E Q pc L st h cells slots := fun H locs ls a b d => W.widen h1 h2 (kk H locs ls a b d)
theorem Wg.L {p : Program} {l : Launch} {e : Env} {R : Room} {s : State} {m : MethodId} {args : Array Value} {below : List Frame} {meth : Method} {c : Code} {E : GE} {Q : State → Prop} {pc : Nat} {L : List (Option Value)} {st : List Value} {h : HV} {cells slots : Nat} (L' : List (Option Value)) (hl : L = L')
    (kk : Wg p l e R s m args below meth c E Q pc L' st h cells slots) : Wg p l e R s m args below meth c E Q pc L st h cells slots := by subst hl; exact kk
/-- fewer cells, fewer locals -/
theorem Wg.less {p : Program} {l : Launch} {e : Env} {R : Room} {s : State} {m : MethodId} {args : Array Value} {below : List Frame} {meth : Method} {c : Code} {E : GE} {Q : State → Prop} {pc : Nat} {L : List (Option Value)} {st : List Value} {h : HV} {cells slots : Nat} (h' : HV) (hs : ∀ (a : Nat) (c : Nat × va_E), h' a = some c → h a = some c)
    (kk : Wg p l e R s m args below meth c E Q pc L st h' cells slots) : Wg p l e R s m args below meth c E Q pc L st h cells slots := fun H locs ls a b d => kk H locs ls (a.less hs) b d
theorem Wg.label {p : Program} {l : Launch} {e : Env} {R : Room} {s : State} {m : MethodId} {args : Array Value} {below : List Frame} {meth : Method} {c : Code} {E : GE} {Q : State → Prop} {pc : Nat} {L : List (Option Value)} {st : List Value} {h : HV} {cells slots : Nat} (h' : HV) (hs : ∀ (a : Nat) (c : Nat × va_E), h' a = some c → ∃ l, h a = some (l, c.2) ∧ (l = 0 → c.1 = 0))
    (kk : Wg p l e R s m args below meth c E Q pc L st h' cells slots) : Wg p l e R s m args below meth c E Q pc L st h cells slots := fun H locs ls a b d => kk H locs ls (a.label hs) b d
theorem Wg.locals {p : Program} {l : Launch} {e : Env} {R : Room} {s : State} {m : MethodId} {args : Array Value} {below : List Frame} {meth : Method} {c : Code} {E : GE} {Q : State → Prop} {pc : Nat} {L : List (Option Value)} {st : List Value} {h : HV} {cells slots : Nat} (L' : List (Option Value)) (hl : L'.length = L.length) (hs : ∀ (i : Nat) (v : Value), L'[i]? = some (some v) → L[i]? = some (some v))
    (kk : Wg p l e R s m args below meth c E Q pc L' st h cells slots) : Wg p l e R s m args below meth c E Q pc L st h cells slots := fun H locs ls a b d => kk H locs ls a b (lhas_less d hl hs)
theorem lprs_append : ∀ (L : List (Option Value)) (n i : Nat), lprs i (L ++ List.replicate n none) = lprs i L := by
  intro L
  induction L with
  | nil =>
    intro n
    induction n with
    | zero => intro i; rfl
    | succ n ih => intro i; show lprs i (none :: List.replicate n none) = _; rw [lprs]; exact ih (i + 1)
  | cons x L ih =>
    intro n i
    cases x with
    | none => show lprs i (none :: (L ++ _)) = lprs i (none :: L); rw [lprs, lprs, ih]
    | some v => show lprs i (some v :: (L ++ _)) = lprs i (some v :: L); rw [lprs, lprs, ih]
theorem lprs_gent : ∀ (vs : List Value) (i : Nat), lprs i (gent vs) = lv_args i vs := by
  intro vs
  induction vs with
  | nil => intro i; rfl
  | cons v vs ih =>
    intro i
    rw [gent, lv_args]
    split
    · rw [lprs, lprs, ih]
    · rw [lprs, ih]
theorem gent_len : ∀ (vs : List Value), (gent vs).length = (lg_sl vs).length := by
  intro vs
  induction vs with
  | nil => rfl
  | cons v vs ih =>
    rw [gent]
    simp only [lg_sl, List.flatMap_cons, List.length_append] at ih ⊢
    split
    · simp only [List.length_cons, List.length_nil]; omega
    · simp only [List.length_cons, List.length_nil]; omega
/-- a contract by the walk of its body -/
theorem Cg.of {l : Launch} {E : GE} {y : MethodName} {cc : ByteArray} {maxL : Nat} {ret : Option FieldType} {lev mc ms : Nat} {av : List Value} {h : HV} {post : Option Value → HV → Prop} (hy : plainFor y = true) (L : List (Option Value)) (hn : (gent av).length ≤ maxL) (hL : gent av ++ List.replicate (maxL - (gent av).length) none = L)
    (body : ∀ (p : Program) (e : Env) (s : State) (m : MethodId) (args : Array Value) (below : List Frame) (meth : Method) (c : Code), OK p s m args meth c cc y.cls maxL ret y.name E → Wg p l e (rmG lev mc ms) s m args below meth c E (MQ below (gQ E post) args s mc ms (gA E)) 0 L [] h 0 0) : Cg l E y cc maxL ret lev mc ms av h post := by
  refine va_MetF (cc := cc) (maxL := maxL) (ret := ret) hy rfl ?_
  intro p e s m args below meth c s₁ B hml hv
  obtain ⟨rfl, hK, hH, hz, hP⟩ := hv
  have hts := atoms_spec (ws := ws_ y cc maxL ret) B.pre
  have hts : ∀ w ∈ lw_all, w.before _ s = true := fun w h => hts w (List.mem_cons_of_mem _ h)
  have hl := lv_entry av (n := maxL) (by rw [← gent_len]; exact hn)
  rw [lg_entry_eq]
  generalize (lg_sl av ++ List.replicate (maxL - (lg_sl av).length) Slot.unset).toArray = ls at hl ⊢
  have hlh : lhas ls L := by
    have h1 : L.length = maxL := by rw [← hL, List.length_append, List.length_replicate]; omega
    unfold lhas
    rw [h1, ← hL, lprs_append, lprs_gent]
    exact hl
  exact body p e s m _ below meth c ⟨B.exec, B.bytes, findClass_of_methodNamed B.named, hml, hts, B.notSynchronized, B.returns, (name_of_methodNamed B.named B.method).1, hK, hH, hz⟩ s.heap [] ls hP va_S.rf hlh
section GRET
variable {p : Program} {l : Launch} {e : Env} {s : State} {m : MethodId} {args : Array Value} {below : List Frame} {meth : Method} {c : Code} {cc : ByteArray} {own : String} {nL : Nat} {ret : Option FieldType} {yn : String} {E : GE} {R : Room} {pc : Nat} {L : List (Option Value)} {h : HV} {cells slots mc ms : Nat} {post : Option Value → HV → Prop}
theorem g_iret {v : Int32} (O : OK p s m args meth c cc own nL (some .int) yn E) (d : decode cc pc = .ok (.ireturn, 1)) (hc : cells ≤ mc) (hs : slots ≤ ms) (hq : post (some (.int v)) h) : Wg p l e R s m args below meth c E (MQ below (gQ E post) args s mc ms (gA E)) pc L [.int v] h cells slots := by
  intro H locs ls hP hS hl
  refine W.widen hc hs ?_
  exact W.iret O.x O.b O.r (fun t ht hW => ⟨⟨_, h, rfl, hq, by rw [ht]; exact hP⟩, hS.F ht⟩) hS.2.2 d O.lk
theorem g_zret {v : Int32} {ty : FieldType} (O : OK p s m args meth c cc own nL (some ty) yn E) (d : decode cc pc = .ok (.ireturn, 1)) (hn : narrow ty (.int v) = .int v) (hc : cells ≤ mc) (hs : slots ≤ ms) (hq : post (some (.int v)) h) : Wg p l e R s m args below meth c E (MQ below (gQ E post) args s mc ms (gA E)) pc L [.int v] h cells slots := by
  intro H locs ls hP hS hl
  refine W.widen hc hs ?_
  exact W.zret O.x O.b O.r hn (fun t ht hW => ⟨⟨_, h, rfl, hq, by rw [ht]; exact hP⟩, hS.F ht⟩) hS.2.2 d O.lk
theorem g_lret {v : Int64} (O : OK p s m args meth c cc own nL (some .long) yn E) (d : decode cc pc = .ok (.lreturn, 1)) (hc : cells ≤ mc) (hs : slots ≤ ms) (hq : post (some (.long v)) h) : Wg p l e R s m args below meth c E (MQ below (gQ E post) args s mc ms (gA E)) pc L [.long v] h cells slots := by
  intro H locs ls hP hS hl
  refine W.widen hc hs ?_
  exact W.lret O.x O.b O.r (fun t ht hW => ⟨⟨_, h, rfl, hq, by rw [ht]; exact hP⟩, hS.F ht⟩) hS.2.2 d O.lk
theorem g_vret (O : OK p s m args meth c cc own nL none yn E) (d : decode cc pc = .ok (.return_, 1)) (hc : cells ≤ mc) (hs : slots ≤ ms) (hq : post none h) : Wg p l e R s m args below meth c E (MQ below (gQ E post) args s mc ms (gA E)) pc L [] h cells slots := by
  intro H locs ls hP hS hl
  refine W.widen hc hs ?_
  exact W.vret O.x O.b O.r (fun t ht hW => ⟨⟨_, h, rfl, hq, by rw [ht]; exact hP⟩, hS.F ht⟩) hS.2.2 d O.lk
theorem g_aret {v : Value} {rt : FieldType} (O : OK p s m args meth c cc own nL (some rt) yn E) (d : decode cc pc = .ok (.areturn, 1)) (hrt : (∃ n, rt = .object n) ∨ ∃ t, rt = .array t) (hv : v = .null ∨ ∃ a, v = .ref a) (hc : cells ≤ mc) (hs : slots ≤ ms) (hq : post (some v) h) : Wg p l e R s m args below meth c E (MQ below (gQ E post) args s mc ms (gA E)) pc L [v] h cells slots := by
  intro H locs ls hP hS hl
  refine W.widen hc hs ?_
  exact W.aret O.x O.b O.r hrt hv (fun t ht hW => ⟨⟨_, h, rfl, hq, by rw [ht]; exact hP⟩, hS.F ht⟩) hS.2.2 d O.lk
end GRET
