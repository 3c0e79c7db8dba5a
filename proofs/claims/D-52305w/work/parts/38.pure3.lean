/-! PURE: sharing ways tried, the poorest, a change, the mean, the digest -/
def por (h : Nat → Nat) : Nat → Nat
  | 0 => 0
  | k + 1 => if h k < h (por h k) then k else por h k
theorem por_1 (h : Nat → Nat) : por h 1 = 0 := by rw [por, por]; split <;> rfl
theorem por_lt (h : Nat → Nat) {k : Nat} (hk : 0 < k) : por h k < k := by
  induction k with
  | zero => omega
  | succ k ih =>
    rw [por]; split
    · omega
    · by_cases e : k = 0
      · subst e; exact Nat.lt_succ_self _
      · have := ih (by omega); omega
theorem por_congr {h h' : Nat → Nat} {k : Nat} (e : ∀ j, j < k → h j = h' j) : por h k = por h' k := by
  induction k with
  | zero => rfl
  | succ k ih =>
    rw [por, por, ← ih (fun j hj => e j (by omega)), e k (by omega)]
    by_cases q : k = 0
    · subst q; split <;> split <;> rfl
    · rw [e (por h k) (by have := por_lt h (Nat.pos_of_ne_zero q); omega)]
def swp (ow : Nat → Int32) (a b : Int32) (k : Nat) : Int32 := if ow k = a then b else if ow k = b then a else ow k
def swf (ow : Nat → Int32) (a b : Int32) (n : Nat) : Nat → Int32 := fun i => if i < n then swp ow a b i else ow i
theorem swf_0 (ow : Nat → Int32) (a b : Int32) : swf ow a b 0 = ow := by funext i; unfold swf; rw [if_neg (by omega)]
theorem swf_at (ow : Nat → Int32) (a b : Int32) (k : Nat) : swf ow a b k k = ow k := by unfold swf; rw [if_neg (by omega)]
theorem swf_s (ow : Nat → Int32) (a b : Int32) (k : Nat) : upd (swf ow a b k) k (swp ow a b k) = swf ow a b (k + 1) := by
  refine upd_ext ?_ (fun j hj => ?_)
  · unfold swf; rw [if_pos (by omega)]
  · unfold swf
    by_cases h : j < k
    · rw [if_pos h, if_pos (by omega)]
    · rw [if_neg h, if_neg (by omega)]
def trd (g : Nat → Nat → Nat) (n m way : Nat) : Int32 := if m < xNeed way then -1 else nI (ae g (wGive g n m way) n m)
def bst (t : Nat → Int32) : Nat → Option Nat
  | 0 => none
  | k + 1 => if t k = -1 then bst t k else match bst t k with
    | none => some k
    | some b => if t k < t b then some k else some b
theorem bst_m {t : Nat → Int32} {k : Nat} (h : t k = -1) : bst t (k + 1) = bst t k := by rw [bst, if_pos h]
theorem bst_none {t : Nat → Int32} {k : Nat} (h : ¬ t k = -1) (hb : bst t k = none) : bst t (k + 1) = some k := by rw [bst, if_neg h, hb]
theorem bst_lt {t : Nat → Int32} {k b : Nat} (h : ¬ t k = -1) (hb : bst t k = some b) (hl : t k < t b) : bst t (k + 1) = some k := by rw [bst, if_neg h, hb]; exact if_pos hl
theorem bst_ge {t : Nat → Int32} {k b : Nat} (h : ¬ t k = -1) (hb : bst t k = some b) (hl : ¬ t k < t b) : bst t (k + 1) = some b := by rw [bst, if_neg h, hb]; exact if_neg hl
theorem bst_in {t : Nat → Int32} {k b : Nat} (h : bst t k = some b) : b < k := by
  induction k generalizing b with
  | zero => cases h
  | succ k ih =>
    rw [bst] at h
    split at h
    · have := ih h; omega
    · split at h
      · cases h; omega
      · rename_i b' hb'
        split at h
        · cases h; omega
        · cases h; have := ih hb'; omega
def lsI (t : Nat → Int32) : Option Nat → Int32
  | none => -1
  | some b => t b
/-- the first pair of which both gain -/
def chP (g : Nat → Nat → Nat) (ow : Nat → Int32) (n : Nat) (a : Nat) : Nat → Bool := fun b => decide (btrN g ow n a b = 1)
def chB (g : Nat → Nat → Nat) (ow : Nat → Int32) (n m a : Nat) : Nat := fd (chP g ow n a) (a + 1) (m - (a + 1))
def chQ (g : Nat → Nat → Nat) (ow : Nat → Int32) (n m : Nat) : Nat → Bool := fun a => decide (chB g ow n m a < m)
def chA (g : Nat → Nat → Nat) (ow : Nat → Int32) (n m : Nat) : Nat := fd (chQ g ow n m) 0 m
def chg (g : Nat → Nat → Nat) (ow : Nat → Int32) (n m : Nat) : Int32 := if chA g ow n m < m then nI (10 * chA g ow n m + chB g ow n m (chA g ow n m)) else -1
theorem fd_ge (P : Nat → Bool) {a m : Nat} (h : m ≤ a) : fd P a (m - a) = a := by rw [show m - a = 0 by omega]; rfl
theorem fd_s {P : Nat → Bool} {a m : Nat} (h : P a = false) (ha : a < m) : fd P a (m - a) = fd P (a + 1) (m - (a + 1)) := by
  rw [show m - a = (m - (a + 1)) + 1 by omega]
  exact fd_f h
/-! the mean -/
def mea (s m : Nat) : UInt64 := if m = 0 then FP.dconst0 else FP.ddiv (FP.i2d (nI s)) (FP.i2d (nI m))
theorem mea_1 : (List.range 1801).all (fun s => decide (FP.ddiv (FP.i2d (nI s)) (FP.i2d (nI 1)) &&& 0x7fffffffffffffff ≤ 0x7ff0000000000000)) = true := by decide +kernel
theorem mea_2 : (List.range 1801).all (fun s => decide (FP.ddiv (FP.i2d (nI s)) (FP.i2d (nI 2)) &&& 0x7fffffffffffffff ≤ 0x7ff0000000000000)) = true := by decide +kernel
theorem mea_3 : (List.range 1801).all (fun s => decide (FP.ddiv (FP.i2d (nI s)) (FP.i2d (nI 3)) &&& 0x7fffffffffffffff ≤ 0x7ff0000000000000)) = true := by decide +kernel
theorem mea_4 : (List.range 1801).all (fun s => decide (FP.ddiv (FP.i2d (nI s)) (FP.i2d (nI 4)) &&& 0x7fffffffffffffff ≤ 0x7ff0000000000000)) = true := by decide +kernel
theorem mea_5 : (List.range 1801).all (fun s => decide (FP.ddiv (FP.i2d (nI s)) (FP.i2d (nI 5)) &&& 0x7fffffffffffffff ≤ 0x7ff0000000000000)) = true := by decide +kernel
theorem mea_n {s m : Nat} (hs : s ≤ 1800) (h0 : 0 < m) (hm : m ≤ 5) : vf_n64 (FP.ddiv (FP.i2d (nI s)) (FP.i2d (nI m))) := by
  have hs : s ∈ List.range 1801 := List.mem_range.mpr (by omega)
  unfold vf_n64
  rcases (show m = 1 ∨ m = 2 ∨ m = 3 ∨ m = 4 ∨ m = 5 by omega) with rfl | rfl | rfl | rfl | rfl
  · exact of_decide_eq_true (List.all_eq_true.mp mea_1 s hs)
  · exact of_decide_eq_true (List.all_eq_true.mp mea_2 s hs)
  · exact of_decide_eq_true (List.all_eq_true.mp mea_3 s hs)
  · exact of_decide_eq_true (List.all_eq_true.mp mea_4 s hs)
  · exact of_decide_eq_true (List.all_eq_true.mp mea_5 s hs)
/-! the digest -/
def dF (f : Nat → Int64) (d : Int64) : Nat → Int64
  | 0 => d
  | n + 1 => dF f d n * 31 + f n
def dS (so : Nat → Nat) (ow : Nat → Int32) (d : Int64) : Nat → Int64
  | 0 => d
  | n + 1 => (dS so ow d n * 31 + (nI (so n)).toInt64) * 31 + (ow n).toInt64
def dE1 (ts : Nat → Nat → Nat) (e : Nat) (d : Int64) (k : Nat) : Int64 := dF (fun j => (nI (ts e j)).toInt64) d k
def dE2 (g : Nat → Nat → Nat) (ow : Nat → Int32) (n m e : Nat) (d : Int64) (k : Nat) : Int64 := dF (fun w => (nI (tld g ow n m e w)).toInt64) d k
def dE3 (g : Nat → Nat → Nat) (ow : Nat → Int32) (n e : Nat) (d : Int64) (k : Nat) : Int64 := dF (fun o => (nI (wo (g e) ow (nI o) n)).toInt64) d k
def dE (g ts : Nat → Nat → Nat) (ow : Nat → Int32) (n m : Nat) (d : Int64) : Nat → Int64
  | 0 => d
  | e + 1 => dE3 g ow n e (dE2 g ow n m e (dE1 ts e (dE g ts ow n m d e) 5) 6) m
def dC (g : Nat → Nat → Nat) (ow : Nat → Int32) (n m : Nat) (sh : Int32) (k : Nat) : Int64 := dF (fun w => (cnt g ow n m sh w).toInt64) 1439 k
def dgs (g ts : Nat → Nat → Nat) (so : Nat → Nat) (ow : Nat → Int32) (n m : Nat) (sh : Int32) : Int64 := dE g ts ow n m (dS so ow (dC g ow n m sh 7) n) m
