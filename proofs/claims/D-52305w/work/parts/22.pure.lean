/-! PURE: sums, what slices are worth, envy -/
def sm (f : Nat → Nat) : Nat → Nat
  | 0 => 0
  | n + 1 => sm f n + f n
theorem sm_0 (f : Nat → Nat) : sm f 0 = 0 := rfl
theorem sm_s (f : Nat → Nat) (n : Nat) : sm f (n + 1) = sm f n + f n := rfl
theorem sm_mono {f : Nat → Nat} {a b : Nat} (h : a ≤ b) : sm f a ≤ sm f b := by
  induction h with
  | refl => exact Nat.le_refl _
  | step _ ih => rw [sm_s]; omega
theorem sm_le {f : Nat → Nat} {c : Nat} (h : ∀ k, f k ≤ c) (n : Nat) : sm f n ≤ n * c := by
  induction n with
  | zero => rw [sm_0]; omega
  | succ n ih => have := h n; rw [sm_s, Nat.succ_mul]; omega
theorem sm_congr {f g : Nat → Nat} {n : Nat} (h : ∀ k, k < n → f k = g k) : sm f n = sm g n := by
  induction n with
  | zero => rfl
  | succ n ih => rw [sm_s, sm_s, ih (fun k hk => h k (by omega)), h n (by omega)]
theorem sm_9 {f : Nat → Nat} (h : ∀ k, f k ≤ 9) {n : Nat} (hn : n ≤ 40) : sm f n ≤ 360 := by
  have := sm_le h n
  omega
/-- what the slices from a on up to ahead of b are worth -/
def rn (f : Nat → Nat) (a b : Nat) : Nat := sm f b - sm f a
theorem rn_self (f : Nat → Nat) (a : Nat) : rn f a a = 0 := Nat.sub_self _
theorem rn_s {f : Nat → Nat} {a k : Nat} (h : a ≤ k) : rn f a (k + 1) = rn f a k + f k := by
  have := sm_mono (f := f) h
  unfold rn
  rw [sm_s]
  omega
theorem rn_mono {f : Nat → Nat} {a b c : Nat} (h : b ≤ c) : rn f a b ≤ rn f a c := Nat.sub_le_sub_right (sm_mono h) _
theorem rn_9 {f : Nat → Nat} (h : ∀ k, f k ≤ 9) {a b : Nat} (hb : b ≤ 40) : rn f a b ≤ 360 := Nat.le_trans (Nat.sub_le _ _) (sm_9 h hb)
theorem rn_congr {f g : Nat → Nat} {a b n : Nat} (ha : a ≤ n) (hb : b ≤ n) (h : ∀ k, k < n → f k = g k) : rn f a b = rn g a b := by
  unfold rn
  rw [sm_congr (f := f) (g := g) (n := a) (fun k hk => h k (by omega)), sm_congr (f := f) (g := g) (n := b) (fun k hk => h k (by omega))]
theorem rn_nil {f : Nat → Nat} {a b : Nat} (h : b ≤ a) : rn f a b = 0 := Nat.sub_eq_zero_of_le (sm_mono h)
theorem rn_end {f : Nat → Nat} {a k z : Nat} (h : k ≤ z ∨ k = a) (h2 : z ≤ k) : rn f a k = rn f a z := by
  rcases h with h | h
  · rw [show k = z by omega]
  · rw [h, rn_self, rn_nil (by omega)]
/-- what eaters like at slices -/
abbrev tk (ts : Nat → Nat → Nat) (so : Nat → Nat) (e : Nat) : Nat → Nat := fun k => ts e (so k)
/-- what the slices of an owner are worth -/
def wo (f : Nat → Nat) (ow : Nat → Int32) (v : Int32) (n : Nat) : Nat := sm (fun k => if ow k = v then f k else 0) n
theorem wo_0 (f : Nat → Nat) (ow : Nat → Int32) (v : Int32) : wo f ow v 0 = 0 := rfl
theorem wo_t {f : Nat → Nat} {ow : Nat → Int32} {v : Int32} {n : Nat} (h : ow n = v) : wo f ow v (n + 1) = wo f ow v n + f n := by
  unfold wo; rw [sm_s, if_pos h]
theorem wo_f {f : Nat → Nat} {ow : Nat → Int32} {v : Int32} {n : Nat} (h : ¬ ow n = v) : wo f ow v (n + 1) = wo f ow v n := by
  unfold wo; rw [sm_s, if_neg h, Nat.add_zero]
theorem wo_9 {f : Nat → Nat} (h : ∀ k, f k ≤ 9) {ow : Nat → Int32} {v : Int32} {n : Nat} (hn : n ≤ 40) : wo f ow v n ≤ 360 :=
  sm_9 (fun k => by split; exact h k; omega) hn
theorem wo_congr {f g : Nat → Nat} {ow ow' : Nat → Int32} {v : Int32} {n : Nat} (h : ∀ k, k < n → f k = g k) (h' : ∀ k, k < n → ow k = ow' k) : wo f ow v n = wo g ow' v n :=
  sm_congr (fun k hk => by rw [h k hk, h' k hk])
/-- how many slices an owner has -/
def mn (ow : Nat → Int32) (v : Int32) (n : Nat) : Nat := sm (fun k => if ow k = v then 1 else 0) n
theorem mn_0 (ow : Nat → Int32) (v : Int32) : mn ow v 0 = 0 := rfl
theorem mn_t {ow : Nat → Int32} {v : Int32} {n : Nat} (h : ow n = v) : mn ow v (n + 1) = mn ow v n + 1 := by
  unfold mn; rw [sm_s, if_pos h]
theorem mn_f {ow : Nat → Int32} {v : Int32} {n : Nat} (h : ¬ ow n = v) : mn ow v (n + 1) = mn ow v n := by
  unfold mn; rw [sm_s, if_neg h, Nat.add_zero]
theorem mn_le (ow : Nat → Int32) (v : Int32) (n : Nat) : mn ow v n ≤ n := by
  have := sm_le (f := fun k => if ow k = v then 1 else 0) (c := 1) (fun k => by split <;> omega) n
  unfold mn; omega
theorem mn_congr {ow ow' : Nat → Int32} {v : Int32} {n : Nat} (h' : ∀ k, k < n → ow k = ow' k) : mn ow v n = mn ow' v n :=
  sm_congr (fun k hk => by rw [h' k hk])
/-- by how much e envies o; g: what each likes at each slice -/
def ey (g : Nat → Nat → Nat) (ow : Nat → Int32) (n e o : Nat) : Nat := wo (g e) ow (nI o) n - wo (g e) ow (nI e) n
theorem ey_le {g : Nat → Nat → Nat} (h : ∀ e k, g e k ≤ 9) {ow : Nat → Int32} {n : Nat} (hn : n ≤ 40) (e o : Nat) : ey g ow n e o ≤ 360 := Nat.le_trans (Nat.sub_le _ _) (wo_9 (h e) hn)
theorem ey_congr {g g' : Nat → Nat → Nat} {ow ow' : Nat → Int32} {n : Nat} (h : ∀ e k, k < n → g e k = g' e k) (h' : ∀ k, k < n → ow k = ow' k) (e o : Nat) : ey g ow n e o = ey g' ow' n e o := by
  unfold ey; rw [wo_congr (fun k hk => h e k hk) h', wo_congr (fun k hk => h e k hk) h']
def ae (g : Nat → Nat → Nat) (ow : Nat → Int32) (n m : Nat) : Nat := sm (fun e => sm (fun o => ey g ow n e o) m) m
theorem max_sub {a b : Nat} (ha : a < 2 ^ 30) (hb : b < 2 ^ 30) : (if nI 0 < nI a - nI b then nI a - nI b else nI 0) = nI (a - b) := by
  have h1 := pk_sub_toInt ha hb
  have h0 : (nI 0).toInt = 0 := by rw [nI_0]; rfl
  split
  · rename_i h
    rw [Int32.lt_iff_toInt_lt, h0, h1] at h
    exact pk_sub (by omega)
  · rename_i h
    rw [Int32.lt_iff_toInt_lt, h0, h1] at h
    rw [show a - b = 0 by omega]
theorem upd_ext {f g : Nat → Int32} {k : Nat} {x : Int32} (hk : g k = x) (h : ∀ j, j ≠ k → g j = f j) : upd f k x = g := by
  funext j
  by_cases hj : j = k
  · subst hj; simp [upd, hk]
  · simp [upd, hj, h j hj]
/-- an index within, as the model asks it -/
theorem in_t {x : Int32} {m : Nat} (h : vp_in x m) (hm : m ≤ 1000) : nI 0 ≤ x ∧ x ≤ nI m - nI 1 := by
  rw [vp_in_iff] at h
  have h0 : (nI 0).toInt = 0 := by rw [nI_0]; rfl
  have h1 := pk_sub_toInt (a := m) (b := 1) (by omega) (by omega)
  rw [Int32.le_iff_toInt_le, Int32.le_iff_toInt_le, h0, h1]
  omega
theorem in_f {x : Int32} {m : Nat} (h : ¬ vp_in x m) (hm : m ≤ 1000) : x < nI 0 ∨ nI m - nI 1 < x := by
  rw [vp_in_iff] at h
  have h0 : (nI 0).toInt = 0 := by rw [nI_0]; rfl
  have h1 := pk_sub_toInt (a := m) (b := 1) (by omega) (by omega)
  rw [Int32.lt_iff_toInt_lt, Int32.lt_iff_toInt_lt, h0, h1]
  omega
/-- the first place from a on, k of them, where P holds -/
def fd (P : Nat → Bool) : Nat → Nat → Nat
  | a, 0 => a
  | a, k + 1 => if P a = true then a else fd P (a + 1) k
theorem fd_t {P : Nat → Bool} {a k : Nat} (h : P a = true) : fd P a k = a := by
  cases k with
  | zero => rfl
  | succ k => rw [fd, if_pos h]
theorem fd_f {P : Nat → Bool} {a k : Nat} (h : P a = false) : fd P a (k + 1) = fd P (a + 1) k := by rw [fd, if_neg (by rw [h]; decide)]
theorem fd_le (P : Nat → Bool) (k a : Nat) : a ≤ fd P a k ∧ fd P a k ≤ a + k := by
  induction k generalizing a with
  | zero => exact ⟨Nat.le_refl _, Nat.le_refl _⟩
  | succ k ih =>
    rw [fd]
    split
    · omega
    · have := ih (a + 1)
      omega
/-- behind which slice a part ends -/
def cp (f : Nat → Nat) (n b parts part : Nat) : Nat → Bool := fun c => decide ((part + 1) * rn f b n ≤ rn f b c * parts)
def ct (f : Nat → Nat) (n b parts part : Nat) : Nat := if part + 1 = parts then n else fd (cp f n b parts part) b (n - b)
theorem ct_stop {f : Nat → Nat} {n b parts part c : Nat} (h : (part + 1) * rn f b n ≤ rn f b c * parts) (k : Nat) : fd (cp f n b parts part) c k = c := fd_t (decide_eq_true h)
theorem ct_step {f : Nat → Nat} {n b parts part c : Nat} (h : rn f b c * parts < (part + 1) * rn f b n) (hc : c < n) : fd (cp f n b parts part) c (n - c) = fd (cp f n b parts part) (c + 1) (n - (c + 1)) := by
  rw [show n - c = (n - (c + 1)) + 1 by omega]
  exact fd_f (decide_eq_false (by omega))
theorem ct_more {f : Nat → Nat} {n b parts part c : Nat} (h : rn f b c * parts < (part + 1) * rn f b n) (hp : part < parts) (hc : c ≤ n) : c < n := by
  rcases Nat.lt_or_ge c n with h1 | h1
  · exact h1
  · have e : c = n := by omega
    rw [e, Nat.mul_comm] at h
    exact absurd (Nat.mul_le_mul_right (rn f b n) (show part + 1 ≤ parts by omega)) (by omega)
theorem ct_le {f : Nat → Nat} {n b parts part : Nat} (h : b ≤ n) : b ≤ ct f n b parts part ∧ ct f n b parts part ≤ n := by
  unfold ct
  split
  · omega
  · have := fd_le (cp f n b parts part) (n - b) b
    omega
/-- the best of those below a number that aren't skipped -/
def bo (g : Nat → Nat) (sk : Nat → Bool) : Nat → Option Nat
  | 0 => none
  | k + 1 => if sk k = true then bo g sk k else match bo g sk k with
    | none => some k
    | some b => if g b < g k then some k else some b
theorem bo_sk {g : Nat → Nat} {sk : Nat → Bool} {k : Nat} (h : sk k = true) : bo g sk (k + 1) = bo g sk k := by rw [bo, if_pos h]
theorem bo_none {g : Nat → Nat} {sk : Nat → Bool} {k : Nat} (h : sk k = false) (h2 : bo g sk k = none) : bo g sk (k + 1) = some k := by rw [bo, if_neg (by rw [h]; decide), h2]
theorem bo_lt {g : Nat → Nat} {sk : Nat → Bool} {k b : Nat} (h : sk k = false) (h2 : bo g sk k = some b) (h3 : g b < g k) : bo g sk (k + 1) = some k := by rw [bo, if_neg (by rw [h]; decide), h2]; exact if_pos h3
theorem bo_ge {g : Nat → Nat} {sk : Nat → Bool} {k b : Nat} (h : sk k = false) (h2 : bo g sk k = some b) (h3 : ¬ g b < g k) : bo g sk (k + 1) = some b := by rw [bo, if_neg (by rw [h]; decide), h2]; exact if_neg h3
theorem bo_in {g : Nat → Nat} {sk : Nat → Bool} {k b : Nat} (h : bo g sk k = some b) : b < k ∧ sk b = false := by
  induction k generalizing b with
  | zero => cases h
  | succ k ih =>
    rw [bo] at h
    split at h
    · have := ih h; exact ⟨by omega, this.2⟩
    · rename_i hs
      have hs : sk k = false := by cases hk : sk k with | true => exact absurd hk hs | false => rfl
      split at h
      · cases h; exact ⟨by omega, hs⟩
      · rename_i b' hb'
        split at h
        · cases h; exact ⟨by omega, hs⟩
        · cases h; have := ih hb'; exact ⟨by omega, this.2⟩
theorem bo_congr {g g' : Nat → Nat} {sk sk' : Nat → Bool} {n : Nat} (hg : ∀ k, k < n → g k = g' k) (hs : ∀ k, k < n → sk k = sk' k) : bo g sk n = bo g' sk' n := by
  induction n with
  | zero => rfl
  | succ n ih =>
    have ih := ih (fun k hk => hg k (by omega)) (fun k hk => hs k (by omega))
    rw [bo, bo, hs n (by omega), ih]
    split
    · rfl
    · cases hb : bo g' sk' n with
      | none => rfl
      | some b => dsimp only; rw [hg b (by have := bo_in hb; omega), hg n (by omega)]
/-- a place, or -1 -/
def oi : Option Nat → Int32
  | none => -1
  | some k => nI k
theorem oi_m1 {k : Nat} (h : k < 2 ^ 31) : ¬ nI k = -1 := by
  intro q
  have h1 := nI_toInt h
  rw [q] at h1
  have h2 : (-1 : Int32).toInt = -1 := by decide
  omega
/-- the most of -/
def mx (f : Nat → Nat) : Nat → Nat
  | 0 => 0
  | n + 1 => max (mx f n) (f n)
theorem mx_le {f : Nat → Nat} {c : Nat} (h : ∀ k, f k ≤ c) (n : Nat) : mx f n ≤ c := by
  induction n with
  | zero => exact Nat.zero_le _
  | succ n ih => exact Nat.max_le.mpr ⟨ih, h n⟩
theorem mx_congr {f g : Nat → Nat} {n : Nat} (h : ∀ k, k < n → f k = g k) : mx f n = mx g n := by
  induction n with
  | zero => rfl
  | succ n ih => rw [mx, mx, ih (fun k hk => h k (by omega)), h n (by omega)]
theorem max_nI {a b : Nat} (ha : a < 2 ^ 31) (hb : b < 2 ^ 31) : (if nI a < nI b then nI b else nI a) = nI (max a b) := by
  split
  · rename_i h
    have := (nI_ltI ha hb).mp h
    rw [Nat.max_eq_right (by omega)]
  · rename_i h
    have : ¬ a < b := fun q => h ((nI_ltI ha hb).mpr q)
    rw [Nat.max_eq_left (by omega)]
theorem min_nI {a b : Nat} (ha : a < 2 ^ 31) (hb : b < 2 ^ 31) : (if nI b < nI a then nI b else nI a) = nI (min a b) := by
  split
  · rename_i h
    have := (nI_ltI hb ha).mp h
    rw [Nat.min_eq_right (by omega)]
  · rename_i h
    have : ¬ b < a := fun q => h ((nI_ltI hb ha).mpr q)
    rw [Nat.min_eq_left (by omega)]
/-- a row in which places from a on up to ahead of z are taken -/
def tkf (rw : Nat → Int32) (a z : Nat) (x : Int32) : Nat → Int32 := fun k => if a ≤ k ∧ k < z then x else rw k
theorem tkf_0 (rw : Nat → Int32) {a z : Nat} (h : z ≤ a) (x : Int32) : tkf rw a z x = rw := by
  funext k; unfold tkf; rw [if_neg (by omega)]
theorem tkf_s (rw : Nat → Int32) {a k : Nat} (h : a ≤ k) (x : Int32) : upd (tkf rw a k x) k x = tkf rw a (k + 1) x := by
  refine upd_ext ?_ (fun j hj => ?_)
  · unfold tkf; rw [if_pos (by omega)]
  · unfold tkf
    by_cases h1 : a ≤ j ∧ j < k
    · rw [if_pos h1, if_pos (by omega)]
    · rw [if_neg h1, if_neg (by omega)]
def wHalf (g : Nat → Nat → Nat) (n : Nat) (rw : Nat → Int32) : Nat → Int32 :=
  if rn (g 1) (ct (g 0) n 0 2 0) n ≤ rn (g 1) 0 (ct (g 0) n 0 2 0) then tkf (tkf rw 0 (ct (g 0) n 0 2 0) (nI 1)) (ct (g 0) n 0 2 0) n (nI 0) else tkf (tkf rw 0 (ct (g 0) n 0 2 0) (nI 0)) (ct (g 0) n 0 2 0) n (nI 1)
