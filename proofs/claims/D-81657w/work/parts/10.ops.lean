/-! THE PURE MACHINE: a heap of cells by number; objects, arrays; each operation may fail ('none'). Nothing here speaks of the JVM. -/
abbrev St : Type := (Nat → Nat → Int32) × (Nat → Nat → Int64) × (Nat → Nat → Option Nat) × (Nat → Nat) × (Nat → Nat) × Nat × Nat
def sI (σ : St) : Nat → Nat → Int32 := σ.1
def sL (σ : St) : Nat → Nat → Int64 := σ.2.1
def sR (σ : St) : Nat → Nat → Option Nat := σ.2.2.1
def sN (σ : St) : Nat → Nat := σ.2.2.2.1
def sK (σ : St) : Nat → Nat := σ.2.2.2.2.1
def sn (σ : St) : Nat := σ.2.2.2.2.2.1
def sz (σ : St) : Nat := σ.2.2.2.2.2.2
def up2 {α : Type} (f : Nat → Nat → α) (a i : Nat) (v : α) : Nat → Nat → α := fun b j => if b = a ∧ j = i then v else f b j
def wI (σ : St) (a i : Nat) (v : Int32) : St := (up2 (sI σ) a i v, sL σ, sR σ, sN σ, sK σ, sn σ, sz σ)
def wL (σ : St) (a i : Nat) (v : Int64) : St := (sI σ, up2 (sL σ) a i v, sR σ, sN σ, sK σ, sn σ, sz σ)
def wR (σ : St) (a i : Nat) (v : Option Nat) : St := (sI σ, sL σ, up2 (sR σ) a i v, sN σ, sK σ, sn σ, sz σ)
/-- a new cell of kind k, with N places (an array) or fields of N slots -/
def wNew (σ : St) (k N : Nat) : St := (fun b j => if b = sn σ then 0 else sI σ b j, fun b j => if b = sn σ then 0 else sL σ b j, fun b j => if b = sn σ then none else sR σ b j, fun b => if b = sn σ then N else sN σ b, fun b => if b = sn σ then k else sK σ b, sn σ + 1, sz σ + N)
/-- cells that nobody reads (what an exception leaves) -/
def wJunk (σ : St) (c z : Nat) : St := (sI σ, sL σ, sR σ, sN σ, sK σ, sn σ + c, sz σ + z)
def CAPN : Nat := 603072
def CAPZ : Nat := 7262314
def LOCB : Nat := 11000
/-- kinds: 0 none of ours, 1 int[], 2 byte[], 3 long[], 4 boolean[], 5 int[][], 6 byte[][], 7 Word[]; 8 + c: an object of the class with the number c -/
abbrev AV : Type := Int32 ⊕ (Int64 ⊕ Option Nat)
def inb (i : Int32) (n : Nat) : Prop := ¬ (i < 0 ∨ n ≤ i.toNatClampNeg)
def gfI (σ : St) (r : Option Nat) (lo hi k : Nat) : Option Int32 := r.bind fun o => if 8 + lo ≤ sK σ o ∧ sK σ o ≤ 8 + hi then some (sI σ o k) else none
def gfL (σ : St) (r : Option Nat) (lo hi k : Nat) : Option Int64 := r.bind fun o => if 8 + lo ≤ sK σ o ∧ sK σ o ≤ 8 + hi then some (sL σ o k) else none
def gfR (σ : St) (r : Option Nat) (lo hi k : Nat) : Option (Option Nat) := r.bind fun o => if 8 + lo ≤ sK σ o ∧ sK σ o ≤ 8 + hi then some (sR σ o k) else none
def pfI (σ : St) (r : Option Nat) (lo hi k : Nat) (v : Int32) : Option St := r.bind fun o => if 8 + lo ≤ sK σ o ∧ sK σ o ≤ 8 + hi then some (wI σ o k v) else none
def pfZ (σ : St) (r : Option Nat) (lo hi k : Nat) (v : Int32) : Option St := r.bind fun o => if 8 + lo ≤ sK σ o ∧ sK σ o ≤ 8 + hi ∧ (v = 0 ∨ v = 1) then some (wI σ o k v) else none
def pfL (σ : St) (r : Option Nat) (lo hi k : Nat) (v : Int64) : Option St := r.bind fun o => if 8 + lo ≤ sK σ o ∧ sK σ o ≤ 8 + hi then some (wL σ o k v) else none
def pfR (σ : St) (r : Option Nat) (lo hi k : Nat) (v : Option Nat) : Option St := r.bind fun o => if 8 + lo ≤ sK σ o ∧ sK σ o ≤ 8 + hi then some (wR σ o k v) else none
def alen (σ : St) (r : Option Nat) : Option Int32 := r.bind fun o => if 1 ≤ sK σ o ∧ sK σ o < 8 then some (Int32.ofNat (sN σ o)) else none
def ldI (σ : St) (r : Option Nat) (kd : Nat) (i : Int32) : Option Int32 := r.bind fun o => if sK σ o = kd ∧ 0 ≤ i ∧ i.toNatClampNeg < sN σ o then some (sI σ o i.toNatClampNeg) else none
def ldL (σ : St) (r : Option Nat) (i : Int32) : Option Int64 := r.bind fun o => if sK σ o = 3 ∧ 0 ≤ i ∧ i.toNatClampNeg < sN σ o then some (sL σ o i.toNatClampNeg) else none
def ldR (σ : St) (r : Option Nat) (kd : Nat) (i : Int32) : Option (Option Nat) := r.bind fun o => if sK σ o = kd ∧ 0 ≤ i ∧ i.toNatClampNeg < sN σ o then some (sR σ o i.toNatClampNeg) else none
def stI (σ : St) (r : Option Nat) (i v : Int32) : Option St := r.bind fun o => if sK σ o = 1 ∧ 0 ≤ i ∧ i.toNatClampNeg < sN σ o then some (wI σ o i.toNatClampNeg v) else none
def stB (σ : St) (r : Option Nat) (i v : Int32) : Option St := r.bind fun o => if sK σ o = 2 ∧ 0 ≤ i ∧ i.toNatClampNeg < sN σ o then some (wI σ o i.toNatClampNeg v.toInt8.toInt32) else none
def stZ (σ : St) (r : Option Nat) (i v : Int32) : Option St := r.bind fun o => if sK σ o = 4 ∧ 0 ≤ i ∧ i.toNatClampNeg < sN σ o ∧ (v = 0 ∨ v = 1) then some (wI σ o i.toNatClampNeg v) else none
def stL (σ : St) (r : Option Nat) (i : Int32) (v : Int64) : Option St := r.bind fun o => if sK σ o = 3 ∧ 0 ≤ i ∧ i.toNatClampNeg < sN σ o then some (wL σ o i.toNatClampNeg v) else none
/-- a reference goes into an array of kind kd: null, or a cell of one of the kinds from lo to hi -/
def stR (σ : St) (r : Option Nat) (kd lo hi : Nat) (i : Int32) (v : Option Nat) : Option St := r.bind fun o => if sK σ o = kd ∧ 0 ≤ i ∧ i.toNatClampNeg < sN σ o ∧ (∀ u, v = some u → lo ≤ sK σ u ∧ sK σ u ≤ hi) then some (wR σ o i.toNatClampNeg v) else none
def newA (σ : St) (kd : Nat) (n : Int32) : Option (Option Nat × St) := if 0 ≤ n ∧ sn σ < CAPN ∧ sz σ + n.toNatClampNeg ≤ CAPZ then some (some (sn σ), wNew σ kd n.toNatClampNeg) else none
/-- an object of the class c, of N fields -/
def newO (σ : St) (c N : Nat) : Option (Option Nat × St) := if sn σ < CAPN ∧ sz σ + N ≤ CAPZ then some (some (sn σ), wNew σ (8 + c) N) else none
def min32 (x y : Int32) : Int32 := if y < x then y else x
def cpI (f : Nat → Nat → Int32) (a b sp dp n : Nat) : Nat → Nat → Int32 := fun x j => if x = b ∧ dp ≤ j ∧ j < dp + n then f a (sp + (j - dp)) else f x j
/-- System.arraycopy of ints or bytes, within bounds -/
def acopy (σ : St) (r : Option Nat) (i : Int32) (r2 : Option Nat) (j n : Int32) : Option St := r.bind fun a => r2.bind fun b =>
  if (sK σ a = 1 ∨ sK σ a = 2) ∧ sK σ b = sK σ a ∧ 0 ≤ i ∧ 0 ≤ j ∧ 0 ≤ n ∧ i.toNatClampNeg + n.toNatClampNeg ≤ sN σ a ∧ j.toNatClampNeg + n.toNatClampNeg ≤ sN σ b then
    some (cpI (sI σ) a b i.toNatClampNeg j.toNatClampNeg n.toNatClampNeg, sL σ, sR σ, sN σ, sK σ, sn σ, sz σ) else none
/-- an exception is made: c cells, at most z slots -/
def junk (σ : St) (c z : Nat) : Option St := if sn σ + c ≤ CAPN ∧ sz σ + z ≤ CAPZ then some (wJunk σ c z) else none
/-- an index beyond an array -/
def outA (σ : St) (r : Option Nat) (i : Int32) : Bool := match r with
  | none => false
  | some o => decide (i < 0 ∨ sN σ o ≤ i.toNatClampNeg)
/-- an array of kind k -/
def isK (σ : St) (r : Option Nat) (k : Nat) : Bool := match r with
  | none => false
  | some o => decide (sK σ o = k) && decide (sN σ o < 2147483648)
/-- whether a Word is of one of the classes lo to hi -/
def cst (σ : St) (r : Option Nat) (lo hi : Nat) : Option Bool := r.bind fun o => if 10 ≤ sK σ o ∧ sK σ o ≤ 14 then some (decide (8 + lo ≤ sK σ o ∧ sK σ o ≤ 8 + hi)) else none
/-- a loop: its body goes on, or ends -/
def it {S E : Type} (b : S → Option (S ⊕ E)) : Nat → S → Option E
  | 0, _ => none
  | k + 1, s => match b s with
    | none => none
    | some (.inl s') => it b k s'
    | some (.inr e) => some e
/-- a call on an object of the class c -/
def cV {α : Type} (σ : St) (r : Option Nat) (c : Nat) (f : Nat → Option α) : Option α := r.bind fun o => if sK σ o = 8 + c then f o else none
/-- a call on an object of one of the classes lo to hi -/
def cW {α : Type} (σ : St) (r : Option Nat) (lo hi : Nat) (f : Nat → Option α) : Option α := r.bind fun o => if 8 + lo ≤ sK σ o ∧ sK σ o ≤ 8 + hi then f o else none
def chk (p : Prop) [Decidable p] {α : Type} (x : Option α) : Option α := if p then x else none
theorem bind_some {α β : Type} {x : Option α} {f : α → Option β} {b : β} (h : x.bind f = some b) : ∃ a, x = some a ∧ f a = some b := by
  cases x with
  | none => simp at h
  | some a => exact ⟨a, rfl, h⟩
theorem chk_some {p : Prop} [Decidable p] {α : Type} {x : Option α} {a : α} (h : chk p x = some a) : p ∧ x = some a := by
  unfold chk at h
  split at h
  · exact ⟨‹_›, h⟩
  · simp at h
theorem ite_none {p : Prop} [Decidable p] {α : Type} {x : Option α} {a : α} (h : (if p then x else none) = some a) : p ∧ x = some a := chk_some h
