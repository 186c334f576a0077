set_option maxRecDepth 100000
/-! a search tree whose nodes are addresses; l: its nodes in order. No program in sight -/
/-- a function changed at one place -/
def fu {α : Type} (f : Nat → α) (a : Nat) (x : α) : Nat → α := fun b => if b = a then x else f b
theorem fu_self {α : Type} {f : Nat → α} {a : Nat} {x : α} : fu f a x a = x := if_pos rfl
theorem fu_ne {α : Type} {f : Nat → α} {a b : Nat} {x : α} (n : b ≠ a) : fu f a x b = f b := if_neg n
/-- below x (whose parent is par) lies a tree with the nodes l in order -/
def Tr (lf rt pa : Nat → Option Nat) (x par : Option Nat) (l : List Nat) : Prop :=
  ∀ P : Option Nat → Option Nat → List Nat → Prop, (∀ q, P none q []) → (∀ (a : Nat) (l1 l2 : List Nat), P (lf a) (some a) l1 → P (rt a) (some a) l2 → P (some a) (pa a) (l1 ++ a :: l2)) → P x par l
theorem Tr.nil {lf rt pa : Nat → Option Nat} {q : Option Nat} : Tr lf rt pa none q [] := fun P h1 _ => h1 q
theorem Tr.node {lf rt pa : Nat → Option Nat} {a : Nat} {l1 l2 : List Nat} (h1 : Tr lf rt pa (lf a) (some a) l1) (h2 : Tr lf rt pa (rt a) (some a) l2) : Tr lf rt pa (some a) (pa a) (l1 ++ a :: l2) := fun P p1 p2 => p2 a l1 l2 (h1 P p1 p2) (h2 P p1 p2)
theorem Tr.node' {lf rt pa : Nat → Option Nat} {a : Nat} {q x y : Option Nat} {l1 l2 : List Nat} (hx : lf a = x) (hy : rt a = y) (hq : pa a = q) (h1 : Tr lf rt pa x (some a) l1) (h2 : Tr lf rt pa y (some a) l2) : Tr lf rt pa (some a) q (l1 ++ a :: l2) := by
  subst hx; subst hy; subst hq
  exact Tr.node h1 h2
theorem Tr.inv {lf rt pa : Nat → Option Nat} {x q : Option Nat} {l : List Nat} (h : Tr lf rt pa x q l) : (x = none ∧ l = []) ∨ ∃ (a : Nat) (l1 l2 : List Nat), x = some a ∧ q = pa a ∧ l = l1 ++ a :: l2 ∧ Tr lf rt pa (lf a) (some a) l1 ∧ Tr lf rt pa (rt a) (some a) l2 := by
  have := h (fun x q l => Tr lf rt pa x q l ∧ ((x = none ∧ l = []) ∨ ∃ (a : Nat) (l1 l2 : List Nat), x = some a ∧ q = pa a ∧ l = l1 ++ a :: l2 ∧ Tr lf rt pa (lf a) (some a) l1 ∧ Tr lf rt pa (rt a) (some a) l2)) (fun q => ⟨Tr.nil, Or.inl ⟨rfl, rfl⟩⟩) (fun a l1 l2 h1 h2 => ⟨Tr.node h1.1 h2.1, Or.inr ⟨a, l1, l2, rfl, rfl, rfl, h1.1, h2.1⟩⟩)
  exact this.2
theorem Tr.at {lf rt pa : Nat → Option Nat} {a : Nat} {q : Option Nat} {l : List Nat} (h : Tr lf rt pa (some a) q l) : ∃ l1 l2 : List Nat, q = pa a ∧ l = l1 ++ a :: l2 ∧ Tr lf rt pa (lf a) (some a) l1 ∧ Tr lf rt pa (rt a) (some a) l2 := by
  rcases h.inv with ⟨h, -⟩ | ⟨b, l1, l2, h1, h2⟩
  · cases h
  · cases h1
    exact ⟨l1, l2, h2⟩
theorem Tr.non {lf rt pa : Nat → Option Nat} {q : Option Nat} {l : List Nat} (h : Tr lf rt pa none q l) : l = [] := by
  rcases h.inv with ⟨-, h⟩ | ⟨b, l1, l2, h1, h2⟩
  · exact h
  · cases h1
/-- the top is one of the nodes -/
theorem Tr.top {lf rt pa : Nat → Option Nat} {a : Nat} {q : Option Nat} {l : List Nat} (h : Tr lf rt pa (some a) q l) : a ∈ l := by
  obtain ⟨l1, l2, -, rfl, -⟩ := h.at
  simp
theorem Tr.congr {lf rt pa lf' rt' pa' : Nat → Option Nat} {x q : Option Nat} {l : List Nat} (h : Tr lf rt pa x q l) : (∀ a ∈ l, lf' a = lf a ∧ rt' a = rt a ∧ pa' a = pa a) → Tr lf' rt' pa' x q l := by
  refine h (fun x q l => (∀ a ∈ l, lf' a = lf a ∧ rt' a = rt a ∧ pa' a = pa a) → Tr lf' rt' pa' x q l) (fun q _ => Tr.nil) (fun a l1 l2 h1 h2 e => ?_)
  obtain ⟨e1, e2, e3⟩ := e a (by simp)
  exact Tr.node' e1 e2 e3 (h1 (fun b hb => e b (by simp [hb]))) (h2 (fun b hb => e b (by simp [hb])))
/-- the same tree below another parent -/
theorem Tr.under {lf rt pa lf' rt' pa' : Nat → Option Nat} {x q q' : Option Nat} {l : List Nat} (h : Tr lf rt pa x q l) (hn : l.Nodup) (e : ∀ a ∈ l, lf' a = lf a ∧ rt' a = rt a ∧ (x ≠ some a → pa' a = pa a)) (e2 : ∀ a, x = some a → pa' a = q') : Tr lf' rt' pa' x q' l := by
  rcases h.inv with ⟨rfl, rfl⟩ | ⟨a, l1, l2, rfl, rfl, rfl, h1, h2⟩
  · exact Tr.nil
  · obtain ⟨e3, e4, -⟩ := e a (by simp)
    have hd := List.nodup_append.mp hn
    refine Tr.node' e3 e4 (e2 a rfl) (h1.congr (fun b hb => ?_)) (h2.congr (fun b hb => ?_))
    · obtain ⟨e5, e6, e7⟩ := e b (by simp [hb])
      refine ⟨e5, e6, e7 (fun z => ?_)⟩
      cases z
      exact hd.2.2 a hb a (by simp) rfl
    · obtain ⟨e5, e6, e7⟩ := e b (by simp [hb])
      refine ⟨e5, e6, e7 (fun z => ?_)⟩
      cases z
      exact (List.nodup_cons.mp hd.2.1).1 hb
/-- what lies around x: up to the root; a step is (x is the left one, the parent, the other side's nodes) -/
def Cx (lf rt pa : Nat → Option Nat) (root : Option Nat) : List (Bool × Nat × List Nat) → Option Nat → Option Nat → Prop
  | [], x, q => root = x ∧ q = none
  | (d, a, ls) :: cs, x, q => q = some a ∧ (if d then lf a = x ∧ Tr lf rt pa (rt a) (some a) ls else rt a = x ∧ Tr lf rt pa (lf a) (some a) ls) ∧ Cx lf rt pa root cs (some a) (pa a)
def cel : List (Bool × Nat × List Nat) → List Nat
  | [] => []
  | (_, a, ls) :: cs => a :: ls ++ cel cs
def plug : List (Bool × Nat × List Nat) → List Nat → List Nat
  | [], m => m
  | (d, a, ls) :: cs, m => plug cs (if d then m ++ a :: ls else ls ++ a :: m)
theorem plug_perm : ∀ (cs : List (Bool × Nat × List Nat)) (m : List Nat), (plug cs m).Perm (m ++ cel cs)
  | [], m => by simp [plug, cel]
  | (d, a, ls) :: cs, m => by
    refine (plug_perm cs _).trans ?_
    cases d
    · simp only [cel, Bool.false_eq_true, if_false, List.append_assoc, List.cons_append]
      refine (List.perm_append_comm_assoc ls [a] (m ++ cel cs)).trans ?_
      refine List.Perm.trans (List.Perm.append_left [a] (List.perm_append_comm_assoc ls m (cel cs))) ?_
      exact List.perm_append_comm_assoc [a] m (ls ++ cel cs)
    · simp [cel]
theorem Cx.congr {lf rt pa lf' rt' pa' : Nat → Option Nat} {root : Option Nat} : ∀ (cs : List (Bool × Nat × List Nat)) {x q : Option Nat}, Cx lf rt pa root cs x q → (∀ a ∈ cel cs, lf' a = lf a ∧ rt' a = rt a ∧ pa' a = pa a) → Cx lf' rt' pa' root cs x q
  | [], x, q, h, e => h
  | (d, a, ls) :: cs, x, q, ⟨h1, h2, h3⟩, e => by
    obtain ⟨e1, e2, e3⟩ := e a (by simp [cel])
    have es : ∀ b ∈ ls, lf' b = lf b ∧ rt' b = rt b ∧ pa' b = pa b := fun b hb => e b (by simp [cel, hb])
    refine ⟨h1, ?_, ?_⟩
    · cases d
      · exact ⟨e2.trans h2.1, by rw [e1]; exact h2.2.congr es⟩
      · exact ⟨e1.trans h2.1, by rw [e2]; exact h2.2.congr es⟩
    · rw [e3]
      exact Cx.congr cs h3 (fun b hb => e b (by simp [cel, hb]))
/-- the context closes over its tree -/
theorem Cx.close {lf rt pa : Nat → Option Nat} {root : Option Nat} : ∀ (cs : List (Bool × Nat × List Nat)) {x q : Option Nat} {m : List Nat}, Cx lf rt pa root cs x q → Tr lf rt pa x q m → Tr lf rt pa root none (plug cs m)
  | [], x, q, m, ⟨h1, h2⟩, t => by subst h1; subst h2; exact t
  | (d, a, ls) :: cs, x, q, m, ⟨h1, h2, h3⟩, t => by
    subst h1
    refine Cx.close cs h3 ?_
    cases d
    · exact Tr.node' rfl rfl rfl h2.2 (by rw [h2.1]; exact t)
    · exact Tr.node' rfl rfl rfl (by rw [h2.1]; exact t) h2.2
/-- to the left, to the right -/
theorem Cx.left {lf rt pa : Nat → Option Nat} {root : Option Nat} {cs : List (Bool × Nat × List Nat)} {a : Nat} {l2 : List Nat} (h : Cx lf rt pa root cs (some a) (pa a)) (t : Tr lf rt pa (rt a) (some a) l2) : Cx lf rt pa root ((true, a, l2) :: cs) (lf a) (some a) := ⟨rfl, ⟨rfl, t⟩, h⟩
theorem Cx.right {lf rt pa : Nat → Option Nat} {root : Option Nat} {cs : List (Bool × Nat × List Nat)} {a : Nat} {l1 : List Nat} (h : Cx lf rt pa root cs (some a) (pa a)) (t : Tr lf rt pa (lf a) (some a) l1) : Cx lf rt pa root ((false, a, l1) :: cs) (rt a) (some a) := ⟨rfl, ⟨rfl, t⟩, h⟩
/-- what a turn to the left leaves (p goes down, its right child r up; q is p's parent) -/
def rlf (lf : Nat → Option Nat) (p r : Nat) : Option Nat → Nat → Option Nat
  | none => fu lf r (some p)
  | some g => if lf g = some p then fu (fu lf g (some r)) r (some p) else fu lf r (some p)
def rrt (lf rt : Nat → Option Nat) (p r : Nat) : Option Nat → Nat → Option Nat
  | none => fu rt p (lf r)
  | some g => if lf g = some p then fu rt p (lf r) else fu (fu rt p (lf r)) g (some r)
def rpa (lf pa : Nat → Option Nat) (p r : Nat) (q : Option Nat) : Nat → Option Nat :=
  fu (fu (match lf r with | none => pa | some b => fu pa b (some p)) r q) p (some r)
def rroot (root : Option Nat) (r : Nat) : Option Nat → Option Nat
  | none => some r
  | some _ => root
theorem rlf_o {lf : Nat → Option Nat} {p r b : Nat} {q : Option Nat} (e1 : b ≠ r) (e2 : q ≠ some b) : rlf lf p r q b = lf b := by
  cases q with
  | none => exact fu_ne e1
  | some g =>
    have hg : b ≠ g := fun z => e2 (by rw [z])
    show (if lf g = some p then fu (fu lf g (some r)) r (some p) else fu lf r (some p)) _ = _
    split
    · exact (fu_ne e1).trans (fu_ne hg)
    · exact fu_ne e1
theorem rlf_r {lf : Nat → Option Nat} {p r : Nat} {q : Option Nat} : rlf lf p r q r = some p := by
  cases q with
  | none => exact fu_self
  | some g =>
    show (if lf g = some p then fu (fu lf g (some r)) r (some p) else fu lf r (some p)) _ = _
    split
    · exact fu_self
    · exact fu_self
theorem rlf_t {lf : Nat → Option Nat} {p r g : Nat} (hg : g ≠ r) (e : lf g = some p) : rlf lf p r (some g) g = some r := by
  show (if lf g = some p then fu (fu lf g (some r)) r (some p) else fu lf r (some p)) _ = _
  rw [if_pos e]
  exact (fu_ne hg).trans fu_self
theorem rlf_f {lf : Nat → Option Nat} {p r g : Nat} (hg : g ≠ r) (e : lf g ≠ some p) : rlf lf p r (some g) g = lf g := by
  show (if lf g = some p then fu (fu lf g (some r)) r (some p) else fu lf r (some p)) _ = _
  rw [if_neg e]
  exact fu_ne hg
theorem rrt_o {lf rt : Nat → Option Nat} {p r b : Nat} {q : Option Nat} (e1 : b ≠ p) (e2 : q ≠ some b) : rrt lf rt p r q b = rt b := by
  cases q with
  | none => exact fu_ne e1
  | some g =>
    have hg : b ≠ g := fun z => e2 (by rw [z])
    show (if lf g = some p then fu rt p (lf r) else fu (fu rt p (lf r)) g (some r)) _ = _
    split
    · exact fu_ne e1
    · exact (fu_ne hg).trans (fu_ne e1)
theorem rrt_p {lf rt : Nat → Option Nat} {p r : Nat} {q : Option Nat} (e2 : q ≠ some p) : rrt lf rt p r q p = lf r := by
  cases q with
  | none => exact fu_self
  | some g =>
    have hg : p ≠ g := fun z => e2 (by rw [z])
    show (if lf g = some p then fu rt p (lf r) else fu (fu rt p (lf r)) g (some r)) _ = _
    split
    · exact fu_self
    · exact (fu_ne hg).trans fu_self
theorem rrt_t {lf rt : Nat → Option Nat} {p r g : Nat} (hg : g ≠ p) (e : lf g = some p) : rrt lf rt p r (some g) g = rt g := by
  show (if lf g = some p then fu rt p (lf r) else fu (fu rt p (lf r)) g (some r)) _ = _
  rw [if_pos e]
  exact fu_ne hg
theorem rrt_f {lf rt : Nat → Option Nat} {p r g : Nat} (e : lf g ≠ some p) : rrt lf rt p r (some g) g = some r := by
  show (if lf g = some p then fu rt p (lf r) else fu (fu rt p (lf r)) g (some r)) _ = _
  rw [if_neg e]
  exact fu_self
theorem rpa_o {lf pa : Nat → Option Nat} {p r b : Nat} {q : Option Nat} (e1 : b ≠ p) (e2 : b ≠ r) (e3 : lf r ≠ some b) : rpa lf pa p r q b = pa b := by
  unfold rpa
  refine (fu_ne e1).trans ((fu_ne e2).trans ?_)
  cases hc : lf r with
  | none => rfl
  | some c => exact fu_ne (fun z => e3 (by rw [hc, z]))
theorem rpa_c {lf pa : Nat → Option Nat} {p r b : Nat} {q : Option Nat} (e1 : b ≠ p) (e2 : b ≠ r) (e3 : lf r = some b) : rpa lf pa p r q b = some p := by
  unfold rpa
  refine (fu_ne e1).trans ((fu_ne e2).trans ?_)
  rw [e3]
  exact fu_self
theorem rpa_r {lf pa : Nat → Option Nat} {p r : Nat} {q : Option Nat} (e1 : r ≠ p) : rpa lf pa p r q r = q := (fu_ne e1).trans fu_self
theorem rpa_p {lf pa : Nat → Option Nat} {p r : Nat} {q : Option Nat} : rpa lf pa p r q p = some r := fu_self
theorem nod3 {l1 l2 l3 k : List Nat} {p r : Nat} (h : (l1 ++ p :: (l2 ++ r :: l3) ++ k).Nodup) :
    p ≠ r ∧ (∀ b ∈ l1, b ≠ p ∧ b ≠ r ∧ b ∉ l2 ∧ b ∉ l3 ∧ b ∉ k) ∧ (∀ b ∈ l2, b ≠ p ∧ b ≠ r ∧ b ∉ l1 ∧ b ∉ l3 ∧ b ∉ k) ∧ (∀ b ∈ l3, b ≠ p ∧ b ≠ r ∧ b ∉ l1 ∧ b ∉ l2 ∧ b ∉ k) ∧ (∀ b ∈ k, b ≠ p ∧ b ≠ r ∧ b ∉ l1 ∧ b ∉ l2 ∧ b ∉ l3) ∧ l1.Nodup ∧ l2.Nodup ∧ l3.Nodup ∧ k.Nodup := by
  simp only [List.nodup_append, List.nodup_cons, List.mem_append, List.mem_cons, not_or] at h
  obtain ⟨⟨a1, ⟨a2, a3, a4, a5⟩, a6⟩, a7, a8⟩ := h
  refine ⟨a2.2.1, fun b hb => ⟨fun z => a6 b hb p (Or.inl rfl) z, fun z => a6 b hb r (Or.inr (Or.inr (Or.inl rfl))) z, fun z => a6 b hb b (Or.inr (Or.inl z)) rfl, fun z => a6 b hb b (Or.inr (Or.inr (Or.inr z))) rfl, fun z => a8 b (Or.inl hb) b z rfl⟩,
    fun b hb => ⟨fun z => a2.1 (z ▸ hb), fun z => a5 b hb r (Or.inl rfl) z, fun z => a6 b z b (Or.inr (Or.inl hb)) rfl, fun z => a5 b hb b (Or.inr z) rfl, fun z => a8 b (Or.inr (Or.inr (Or.inl hb))) b z rfl⟩,
    fun b hb => ⟨fun z => a2.2.2 (z ▸ hb), fun z => a4.1 (z ▸ hb), fun z => a6 b z b (Or.inr (Or.inr (Or.inr hb))) rfl, fun z => a5 b z b (Or.inr hb) rfl, fun z => a8 b (Or.inr (Or.inr (Or.inr (Or.inr hb)))) b z rfl⟩,
    fun b hb => ⟨fun z => a8 b (Or.inr (Or.inl z)) b hb rfl, fun z => a8 b (Or.inr (Or.inr (Or.inr (Or.inl z)))) b hb rfl, fun z => a8 b (Or.inl z) b hb rfl, fun z => a8 b (Or.inr (Or.inr (Or.inl z))) b hb rfl, fun z => a8 b (Or.inr (Or.inr (Or.inr (Or.inr z)))) b hb rfl⟩, a1, a3, a4.2, a7⟩
theorem rotL {lf rt pa : Nat → Option Nat} {root q : Option Nat} {cs : List (Bool × Nat × List Nat)} {p r : Nat} {l1 l2 l3 : List Nat} (hr : rt p = some r) (hN : (l1 ++ p :: (l2 ++ r :: l3) ++ cel cs).Nodup) (hC : Cx lf rt pa root cs (some p) q) (hp : pa p = q) (t1 : Tr lf rt pa (lf p) (some p) l1) (h2 : pa r = some p) (t2 : Tr lf rt pa (lf r) (some r) l2) (t3 : Tr lf rt pa (rt r) (some r) l3) :
    Cx (rlf lf p r q) (rrt lf rt p r q) (rpa lf pa p r q) (rroot root r q) cs (some r) q ∧ Tr (rlf lf p r q) (rrt lf rt p r q) (rpa lf pa p r q) (lf p) (some p) l1 ∧ Tr (rlf lf p r q) (rrt lf rt p r q) (rpa lf pa p r q) (lf r) (some p) l2 ∧ Tr (rlf lf p r q) (rrt lf rt p r q) (rpa lf pa p r q) (rt r) (some r) l3 ∧
    rlf lf p r q r = some p ∧ rrt lf rt p r q r = rt r ∧ rpa lf pa p r q r = q ∧ rlf lf p r q p = lf p ∧ rrt lf rt p r q p = lf r ∧ rpa lf pa p r q p = some r := by
  obtain ⟨npr, n1, n2, n3, nk, d1, d2, d3, dk⟩ := nod3 hN
  have htop : ∀ b, lf r = some b → b ∈ l2 := fun b e => by rw [e] at t2; exact t2.top
  have hg : ∀ g, q = some g → g ∈ cel cs := fun g e => by
    cases cs with
    | nil => exact absurd (hC.2.symm.trans e) (by simp)
    | cons c cs =>
      obtain ⟨d, a, ls⟩ := c
      have := hC.1.symm.trans e
      cases this
      simp [cel]
  have fl : ∀ b, b ≠ r → q ≠ some b → rlf lf p r q b = lf b := fun b e1 e2 => rlf_o e1 e2
  have fr : ∀ b, b ≠ p → q ≠ some b → rrt lf rt p r q b = rt b := fun b e1 e2 => rrt_o e1 e2
  have fp : ∀ b, b ≠ p → b ≠ r → lf r ≠ some b → rpa lf pa p r q b = pa b := fun b e1 e2 e3 => rpa_o e1 e2 e3
  have fp2 : ∀ b, lf r = some b → rpa lf pa p r q b = some p := fun b e => by
    have := n2 b (htop b e)
    exact rpa_c this.1 this.2.1 e
  have hqp : q ≠ some p := fun e => (nk p (hg p e)).1 rfl
  have hqr : q ≠ some r := fun e => (nk r (hg r e)).2.1 rfl
  refine ⟨?_, ?_, ?_, ?_, ?_, ?_, ?_, ?_, ?_, ?_⟩
  · cases cs with
    | nil =>
      obtain ⟨e1, e2⟩ := hC
      subst e2
      exact ⟨rfl, rfl⟩
    | cons c cs =>
      obtain ⟨d, g, ls⟩ := c
      obtain ⟨e1, e2, e3⟩ := hC
      subst e1
      have hgk : ∀ b, b ∈ ls ∨ b ∈ cel cs → b ≠ g := fun b hb => by
        simp only [cel, List.nodup_cons, List.mem_append, List.cons_append] at dk
        exact fun z => dk.1 (z ▸ hb)
      have hgg := nk g (by simp [cel])
      have hgl : lf r ≠ some g := fun e => hgg.2.2.2.1 (htop g e)
      have hlk : ∀ b, b ∈ ls ∨ b ∈ cel cs → rlf lf p r (some g) b = lf b ∧ rrt lf rt p r (some g) b = rt b ∧ rpa lf pa p r (some g) b = pa b := fun b hb => by
        have hb2 := nk b (by simp only [cel, List.cons_append, List.mem_cons, List.mem_append]; exact Or.inr hb)
        have := hgk b hb
        exact ⟨fl b hb2.2.1 (by simpa using this.symm), fr b hb2.1 (by simpa using this.symm), fp b hb2.1 hb2.2.1 (fun e => hb2.2.2.2.1 (htop b e))⟩
      refine ⟨rfl, ?_, ?_⟩
      · cases d
        · simp only [Bool.false_eq_true, if_false] at e2 ⊢
          have hne : lf g ≠ some p := fun e => (nk p (by
            have t := e2.2
            rw [e] at t
            simp [cel, t.top])).1 rfl
          have hl : rlf lf p r (some g) g = lf g := rlf_f hgg.2.1 hne
          have hR : rrt lf rt p r (some g) g = some r := rrt_f hne
          exact ⟨hR, by rw [hl]; exact e2.2.congr (fun b hb => hlk b (Or.inl hb))⟩
        · simp only [if_true] at e2 ⊢
          have hl : rlf lf p r (some g) g = some r := rlf_t hgg.2.1 e2.1
          have hR : rrt lf rt p r (some g) g = rt g := rrt_t hgg.1 e2.1
          exact ⟨hl, by rw [hR]; exact e2.2.congr (fun b hb => hlk b (Or.inl hb))⟩
      · rw [fp g hgg.1 hgg.2.1 hgl]
        exact Cx.congr cs e3 (fun b hb => hlk b (Or.inr hb))
  · refine t1.congr (fun b hb => ?_)
    obtain ⟨u1, u2, u3, u4, u5⟩ := n1 b hb
    exact ⟨fl b u2 (fun e => u5 (hg b e)), fr b u1 (fun e => u5 (hg b e)), fp b u1 u2 (fun e => u3 (htop b e))⟩
  · refine t2.under d2 (fun b hb => ?_) fp2
    obtain ⟨u1, u2, u3, u4, u5⟩ := n2 b hb
    exact ⟨fl b u2 (fun e => u5 (hg b e)), fr b u1 (fun e => u5 (hg b e)), fun e => fp b u1 u2 e⟩
  · refine t3.congr (fun b hb => ?_)
    obtain ⟨u1, u2, u3, u4, u5⟩ := n3 b hb
    exact ⟨fl b u2 (fun e => u5 (hg b e)), fr b u1 (fun e => u5 (hg b e)), fp b u1 u2 (fun e => u4 (htop b e))⟩
  · exact rlf_r
  · exact fr r (Ne.symm npr) hqr
  · exact rpa_r (Ne.symm npr)
  · exact fl p npr hqp
  · exact rrt_p hqp
  · exact rpa_p
/-! the mirror -/
theorem Tr.mir {lf rt pa : Nat → Option Nat} {x q : Option Nat} {l : List Nat} (h : Tr lf rt pa x q l) : Tr rt lf pa x q l.reverse := by
  refine h (fun x q l => Tr rt lf pa x q l.reverse) (fun q => Tr.nil) (fun a l1 l2 h1 h2 => ?_)
  rw [List.reverse_append, List.reverse_cons, List.append_assoc]
  exact Tr.node h2 h1
def cmir (cs : List (Bool × Nat × List Nat)) : List (Bool × Nat × List Nat) := cs.map (fun c => (!c.1, c.2.1, c.2.2.reverse))
theorem Cx.mir {lf rt pa : Nat → Option Nat} {root : Option Nat} : ∀ (cs : List (Bool × Nat × List Nat)) {x q : Option Nat}, Cx lf rt pa root cs x q → Cx rt lf pa root (cmir cs) x q
  | [], x, q, h => h
  | (d, a, ls) :: cs, x, q, ⟨h1, h2, h3⟩ => by
    refine ⟨h1, ?_, Cx.mir cs h3⟩
    cases d
    · exact ⟨h2.1, h2.2.mir⟩
    · exact ⟨h2.1, h2.2.mir⟩
theorem cmir_cmir (cs : List (Bool × Nat × List Nat)) : cmir (cmir cs) = cs := by
  unfold cmir
  rw [List.map_map]
  have : ((fun c : Bool × Nat × List Nat => (!c.1, c.2.1, c.2.2.reverse)) ∘ fun c => (!c.1, c.2.1, c.2.2.reverse)) = id := by
    funext c
    simp
  rw [this, List.map_id]
theorem cmir_perm : ∀ (cs : List (Bool × Nat × List Nat)), (cel (cmir cs)).Perm (cel cs)
  | [] => List.Perm.refl _
  | (d, a, ls) :: cs => by
    show (a :: ls.reverse ++ cel (cmir cs)).Perm (a :: ls ++ cel cs)
    exact List.Perm.append ((List.reverse_perm ls).cons a) (cmir_perm cs)
theorem rotR {lf rt pa : Nat → Option Nat} {root q : Option Nat} {cs : List (Bool × Nat × List Nat)} {p r : Nat} {l1 l2 l3 : List Nat} (hr : lf p = some r) (hN : ((l1 ++ r :: l2) ++ p :: l3 ++ cel cs).Nodup) (hC : Cx lf rt pa root cs (some p) q) (hp : pa p = q) (t1 : Tr lf rt pa (lf r) (some r) l1) (h2 : pa r = some p) (t2 : Tr lf rt pa (rt r) (some r) l2) (t3 : Tr lf rt pa (rt p) (some p) l3) :
    Cx (rrt rt lf p r q) (rlf rt p r q) (rpa rt pa p r q) (rroot root r q) cs (some r) q ∧ Tr (rrt rt lf p r q) (rlf rt p r q) (rpa rt pa p r q) (lf r) (some r) l1 ∧ Tr (rrt rt lf p r q) (rlf rt p r q) (rpa rt pa p r q) (rt r) (some p) l2 ∧ Tr (rrt rt lf p r q) (rlf rt p r q) (rpa rt pa p r q) (rt p) (some p) l3 ∧
    rlf rt p r q r = some p ∧ rrt rt lf p r q r = lf r ∧ rpa rt pa p r q r = q ∧ rlf rt p r q p = rt p ∧ rrt rt lf p r q p = rt r ∧ rpa rt pa p r q p = some r := by
  have hN' : (l3.reverse ++ p :: (l2.reverse ++ r :: l1.reverse) ++ cel (cmir cs)).Nodup := by
    refine (List.Perm.nodup_iff ?_).mpr hN
    refine List.Perm.append ?_ (cmir_perm cs)
    refine List.Perm.trans ?_ (List.reverse_perm _)
    simp
  obtain ⟨k1, k2, k3, k4, k5⟩ := rotL (lf := rt) (rt := lf) hr hN' hC.mir hp t3.mir h2 t2.mir t1.mir
  refine ⟨?_, ?_, ?_, ?_, k5⟩
  · have := k1.mir
    rw [cmir_cmir] at this
    exact this
  · have := k4.mir
    rw [List.reverse_reverse] at this
    exact this
  · have := k3.mir
    rw [List.reverse_reverse] at this
    exact this
  · have := k2.mir
    rw [List.reverse_reverse] at this
    exact this
