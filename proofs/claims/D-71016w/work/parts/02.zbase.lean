/-! Z: the pure side's words: ints as integers, memory as one function, partial steps, loops -/
abbrev ZS : Type := Nat → Int → Int
abbrev zk_R (x : Int) : Prop := -2147483648 ≤ x ∧ x ≤ 2147483647
abbrev zk_Q64 (x : Int) : Prop := -9223372036854775808 ≤ x ∧ x ≤ 9223372036854775807
def zk_g {α : Type} (P : Prop) [Decidable P] (k : Option α) : Option α := if P then k else none
theorem zk_gp {α : Type} {P : Prop} [Decidable P] {k : Option α} (h : P) : zk_g P k = k := if_pos h
theorem zk_gs {α : Type} {P : Prop} [Decidable P] {k : Option α} {r : α} (h : zk_g P k = some r) : P ∧ k = some r := by
  unfold zk_g at h
  by_cases hp : P
  · rw [if_pos hp] at h; exact ⟨hp, h⟩
  · rw [if_neg hp] at h; cases h
/-- one answer, then the rest; two -/
def zk_b {α β : Type} (x : Option α) (k : α → Option β) : Option β := match x with
  | none => none
  | some a => k a
def zk_b2 {α γ β : Type} (x : Option (α × γ)) (k : α → γ → Option β) : Option β := match x with
  | none => none
  | some a => k a.1 a.2
theorem zk_bp {α β : Type} {x : Option α} {k : α → Option β} {a : α} (h : x = some a) : zk_b x k = k a := by rw [h]; rfl
theorem zk_b2p {α γ β : Type} {x : Option (α × γ)} {k : α → γ → Option β} {a : α} {c : γ} (h : x = some (a, c)) : zk_b2 x k = k a c := by rw [h]; rfl
theorem zk_bs {α β : Type} {x : Option α} {k : α → Option β} {r : β} (h : zk_b x k = some r) : ∃ a, x = some a ∧ k a = some r := by
  cases x with
  | none => cases h
  | some a => exact ⟨a, rfl, h⟩
theorem zk_b2s {α γ β : Type} {x : Option (α × γ)} {k : α → γ → Option β} {r : β} (h : zk_b2 x k = some r) : ∃ a c, x = some (a, c) ∧ k a c = some r := by
  cases x with
  | none => cases h
  | some a => exact ⟨a.1, a.2, rfl, h⟩
/-- a value by a name -/
def zk_n {α β : Type} (a : α) (f : α → β) : β := f a
theorem zk_ifs {α : Type} {c : Prop} [Decidable c] {x y : Option α} {r : α} (h : (if c then x else y) = some r) : (c → x = some r) ∧ (¬ c → y = some r) :=
  ⟨fun q => by rw [if_pos q] at h; exact h, fun q => by rw [if_neg q] at h; exact h⟩
/-- a loop: each round goes on (inl) or leaves (inr); at most n rounds -/
def zk_loop {α β : Type} : Nat → (α → Option (α ⊕ β)) → α → Option β
  | 0, _, _ => none
  | n + 1, f, a => match f a with
    | none => none
    | some (.inl a') => zk_loop n f a'
    | some (.inr r) => some r
def zk_lk {α β : Type} (n : Nat) (f : α → Option (α ⊕ β)) (c : α ⊕ β) : Option β := match c with
  | .inl a' => zk_loop n f a'
  | .inr r => some r
theorem zk_loopS {α β : Type} (n : Nat) (f : α → Option (α ⊕ β)) (a : α) : zk_loop (n + 1) f a = zk_b (f a) (zk_lk n f) := by
  show (match f a with | none => none | some (.inl a') => zk_loop n f a' | some (.inr r) => some r) = zk_b (f a) (zk_lk n f)
  cases f a with
  | none => rfl
  | some c => cases c <;> rfl
theorem zk_loopL {α β : Type} {n : Nat} {f : α → Option (α ⊕ β)} {a a' : α} (h : f a = some (.inl a')) : zk_loop (n + 1) f a = zk_loop n f a' := by
  rw [zk_loopS, zk_bp h]; rfl
theorem zk_loopR {α β : Type} {n : Nat} {f : α → Option (α ⊕ β)} {a : α} {r : β} (h : f a = some (.inr r)) : zk_loop (n + 1) f a = some r := by
  rw [zk_loopS, zk_bp h]; rfl
/-- the same with what follows it -/
theorem zk_ls {α β γ : Type} {n : Nat} {f : α → Option (α ⊕ β)} {a : α} {k : β → Option γ} {r : γ} (h : zk_b (zk_loop (n + 1) f a) k = some r) : ∃ c, f a = some c ∧ zk_b (zk_lk n f c) k = some r := by
  rw [zk_loopS] at h
  cases hc : f a with
  | none => rw [hc] at h; cases h
  | some c => rw [hc] at h; exact ⟨c, rfl, h⟩
theorem zk_ls0 {α β : Type} {n : Nat} {f : α → Option (α ⊕ β)} {a : α} {r : β} (h : zk_loop (n + 1) f a = some r) : ∃ c, f a = some c ∧ zk_lk n f c = some r := by
  rw [zk_loopS] at h
  exact zk_bs h
/-- a loop that leaves in two ways: on, or by a return -/
def zk_lr {ε ρ : Type} (x : Option (ε ⊕ ρ)) (k : ε → Option ρ) : Option ρ := match x with
  | none => none
  | some (.inl e) => k e
  | some (.inr r) => some r
def zk_lr1 {ε ρ : Type} (k : ε → Option ρ) (c : ε ⊕ ρ) : Option ρ := match c with
  | .inl e => k e
  | .inr r => some r
theorem zk_lrE {ε ρ : Type} (x : Option (ε ⊕ ρ)) (k : ε → Option ρ) : zk_lr x k = zk_b x (zk_lr1 k) := by
  cases x with
  | none => rfl
  | some c => cases c <;> rfl
theorem zk_so {α : Type} {x y : α} (h : (some x : Option α) = some y) : y = x := (Option.some.inj h).symm
/-- loops, by a measure that falls -/
theorem zk_loopI {α β : Type} {f : α → Option (α ⊕ β)} (I : α → Prop) (μ : α → Nat) (Q : β → Prop)
    (hs : ∀ a, I a → (∃ a', f a = some (.inl a') ∧ I a' ∧ μ a' < μ a) ∨ (∃ r, f a = some (.inr r) ∧ Q r)) : ∀ (n : Nat) (a : α), I a → μ a < n → ∃ r, zk_loop n f a = some r ∧ Q r := by
  intro n
  induction n with
  | zero => intro a _ h; omega
  | succ n ih =>
    intro a ha hn
    rcases hs a ha with ⟨a', h1, h2, h3⟩ | ⟨r, h1, h2⟩
    · rw [zk_loopL h1]
      exact ih a' h2 (by omega)
    · exact ⟨r, zk_loopR h1, h2⟩
/-- memory: k's i-th place becomes x -/
def zk_u (σ : ZS) (k : Nat) (i x : Int) : ZS := fun k' => if k' = k then (fun i' => if i' = i then x else σ k i') else σ k'
theorem zk_uk {σ : ZS} {k k' : Nat} {i x : Int} (h : k' ≠ k) : zk_u σ k i x k' = σ k' := if_neg h
theorem zk_uka {σ : ZS} {k k' : Nat} {i x j : Int} (h : k' ≠ k) : zk_u σ k i x k' j = σ k' j := by rw [zk_uk h]
theorem zk_us {σ : ZS} {k : Nat} {i x : Int} : zk_u σ k i x k i = x := by simp [zk_u]
theorem zk_un {σ : ZS} {k : Nat} {i j x : Int} (h : j ≠ i) : zk_u σ k i x k j = σ k j := by simp [zk_u, h]
theorem zk_ui (σ : ZS) (k : Nat) (i j x : Int) : zk_u σ k i x k j = if j = i then x else σ k j := by simp [zk_u]
/-- n places of ks from si on go to kd from di on -/
def zk_cp (σ : ZS) (ks : Nat) (si : Int) (kd : Nat) (di n : Int) : ZS := fun k' => if k' = kd then (fun j => if di ≤ j ∧ j < di + n then σ ks (si + (j - di)) else σ kd j) else σ k'
theorem zk_cpk {σ : ZS} {ks kd k' : Nat} {si di n : Int} (h : k' ≠ kd) : zk_cp σ ks si kd di n k' = σ k' := if_neg h
theorem zk_cpi (σ : ZS) (ks kd : Nat) (si di n j : Int) : zk_cp σ ks si kd di n kd j = if di ≤ j ∧ j < di + n then σ ks (si + (j - di)) else σ kd j := by simp [zk_cp]
/-- n places of k from i on become x -/
def zk_fl (σ : ZS) (k : Nat) (i n x : Int) : ZS := fun k' => if k' = k then (fun j => if i ≤ j ∧ j < i + n then x else σ k j) else σ k'
theorem zk_flk {σ : ZS} {k k' : Nat} {i n x : Int} (h : k' ≠ k) : zk_fl σ k i n x k' = σ k' := if_neg h
theorem zk_fli (σ : ZS) (k : Nat) (i n x j : Int) : zk_fl σ k i n x k j = if i ≤ j ∧ j < i + n then x else σ k j := by simp [zk_fl]
/-- bits, by the machine's own -/
def zk_and (a b : Int) : Int := (Int32.ofInt a &&& Int32.ofInt b).toInt
def zk_or (a b : Int) : Int := (Int32.ofInt a ||| Int32.ofInt b).toInt
def zk_xor (a b : Int) : Int := (Int32.ofInt a ^^^ Int32.ofInt b).toInt
def zk_byte (a : Int) : Int := (Int32.ofInt a).toInt8.toInt
