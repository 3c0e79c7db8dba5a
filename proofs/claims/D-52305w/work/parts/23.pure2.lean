/-! PURE: turns, the knife, trimming -/
theorem sm_at {f f' : Nat → Nat} {n w : Nat} (hw : w < n) (h : ∀ k, k ≠ w → f' k = f k) : sm f' n + f w = sm f n + f' w := by
  induction n with
  | zero => omega
  | succ n ih =>
    rw [sm_s, sm_s]
    by_cases e : w = n
    · subst e
      rw [sm_congr (f := f') (g := f) (n := w) (fun k hk => h k (by omega))]
      omega
    · have := ih (by omega)
      rw [h n (fun q => e q.symm)]
      omega
theorem sm_pos {f : Nat → Nat} {n : Nat} (h : 0 < sm f n) : ∃ k, k < n ∧ 0 < f k := by
  induction n with
  | zero => exact absurd h (Nat.lt_irrefl _)
  | succ n ih =>
    rw [sm_s] at h
    by_cases e : 0 < f n
    · exact ⟨n, by omega, e⟩
    · obtain ⟨k, h1, h2⟩ := ih (by omega)
      exact ⟨k, by omega, h2⟩
theorem mn_pos {ow : Nat → Int32} {v : Int32} {n : Nat} (h : 0 < mn ow v n) : ∃ k, k < n ∧ ow k = v := by
  obtain ⟨k, h1, h2⟩ := sm_pos h
  refine ⟨k, h1, ?_⟩
  by_cases e : ow k = v
  · exact e
  · rw [if_neg e] at h2; omega
theorem mn_zero {ow : Nat → Int32} {v : Int32} {n : Nat} (h : mn ow v n = 0) : ∀ k, k < n → ow k ≠ v := by
  induction n with
  | zero => intro k hk; omega
  | succ n ih =>
    intro k hk e
    by_cases q : ow n = v
    · rw [mn_t q] at h; omega
    · rw [mn_f q] at h
      by_cases z : k = n
      · exact q (z ▸ e)
      · exact ih h k (by omega) e
theorem mn_upd {ow : Nat → Int32} {v x : Int32} {n k : Nat} (hk : k < n) (h : ow k = v) (hx : ¬ x = v) : mn (upd ow k x) v n + 1 = mn ow v n := by
  have e := sm_at (f := fun j => if ow j = v then 1 else 0) (f' := fun j => if upd ow k x j = v then 1 else 0) hk (fun j hj => by simp only [pk_un hj])
  simp only [pk_us, if_pos h, if_neg hx] at e
  unfold mn
  omega
theorem bo_some {g : Nat → Nat} {sk : Nat → Bool} {n : Nat} (h : ∃ k, k < n ∧ sk k = false) : ∃ b, bo g sk n = some b := by
  induction n with
  | zero => obtain ⟨k, h1, -⟩ := h; omega
  | succ n ih =>
    obtain ⟨k, h1, h2⟩ := h
    cases hs : sk n with
    | true =>
      have hk : k < n := by
        rcases Nat.lt_or_ge k n with q | q
        · exact q
        · have : k = n := by omega
          subst this; rw [h2] at hs; cases hs
      obtain ⟨b, hb⟩ := ih ⟨k, hk, h2⟩
      exact ⟨b, by rw [bo_sk hs]; exact hb⟩
    | false =>
      cases hb : bo g sk n with
      | none => exact ⟨n, bo_none hs hb⟩
      | some b =>
        by_cases q : g b < g n
        · exact ⟨n, bo_lt hs hb q⟩
        · exact ⟨b, bo_ge hs hb q⟩
theorem bo_all {g : Nat → Nat} {sk : Nat → Bool} {n : Nat} (h : bo g sk n = none) : ∀ k, k < n → sk k = true := by
  intro k hk
  cases hs : sk k with
  | true => rfl
  | false =>
    obtain ⟨b, hb⟩ := bo_some (g := g) ⟨k, hk, hs⟩
    rw [h] at hb; cases hb
/-- slices without an owner are taken in turns -/
def fsk (ow : Nat → Int32) : Nat → Bool := fun k => decide (¬ ow k = -1)
def tn (g : Nat → Nat → Nat) (n m : Nat) : Nat → (Nat → Int32) → Nat → (Nat → Int32)
  | 0, ow, _ => ow
  | f + 1, ow, e => match bo (g e) (fsk ow) n with
    | none => ow
    | some k => tn g n m f (upd ow k (nI e)) ((e + 1) % m)
theorem fsk_t {ow : Nat → Int32} {k : Nat} (h : ¬ ow k = -1) : fsk ow k = true := decide_eq_true h
theorem fsk_f {ow : Nat → Int32} {k : Nat} (h : ow k = -1) : fsk ow k = false := decide_eq_false (fun q => q h)
theorem fsk_of {ow : Nat → Int32} {k : Nat} (h : fsk ow k = false) : ow k = -1 := Decidable.byContradiction (fun q => of_decide_eq_false h q)
def wTurns (g : Nat → Nat → Nat) (n m : Nat) (ow : Nat → Int32) (e : Nat) : Nat → Int32 := tn g n m (mn ow (-1) n) ow e
theorem tn_step {g : Nat → Nat → Nat} {n m : Nat} {ow : Nat → Int32} {e b : Nat} (he : e < 2 ^ 31) (hb : bo (g e) (fsk ow) n = some b) : wTurns g n m ow e = wTurns g n m (upd ow b (nI e)) ((e + 1) % m) ∧ mn (upd ow b (nI e)) (-1) n + 1 = mn ow (-1) n := by
  have h1 := bo_in hb
  have h2 := mn_upd (x := nI e) h1.1 (fsk_of h1.2) (oi_m1 he)
  refine ⟨?_, h2⟩
  unfold wTurns
  rw [← h2, tn, hb]
theorem tn_stop {g : Nat → Nat → Nat} {n m : Nat} {ow : Nat → Int32} {e : Nat} (h : mn ow (-1) n = 0) : wTurns g n m ow e = ow := by
  unfold wTurns; rw [h]; rfl
theorem tn_some {g : Nat → Nat} {n : Nat} {ow : Nat → Int32} (h : 0 < mn ow (-1) n) : ∃ b, bo g (fsk ow) n = some b := by
  obtain ⟨k, h1, h2⟩ := mn_pos h
  exact bo_some ⟨k, h1, fsk_f h2⟩
theorem tn_none {g : Nat → Nat} {n : Nat} {ow : Nat → Int32} (h : bo g (fsk ow) n = none) : mn ow (-1) n = 0 := by
  rcases Nat.eq_zero_or_pos (mn ow (-1) n) with q | q
  · exact q
  · obtain ⟨b, hb⟩ := tn_some (g := g) q
    rw [h] at hb; cases hb
/-- how many are still there -/
def cg (gone : Nat → Bool) (m : Nat) : Nat := sm (fun e => if gone e = true then 0 else 1) m
theorem cg_pos {gone : Nat → Bool} {m : Nat} (h : 0 < cg gone m) : ∃ k, k < m ∧ gone k = false := by
  obtain ⟨k, h1, h2⟩ := sm_pos h
  refine ⟨k, h1, ?_⟩
  cases e : gone k with
  | true => simp only [e, if_true] at h2; omega
  | false => rfl
theorem cg_upd {gone : Nat → Bool} {m w : Nat} (hw : w < m) (h : gone w = false) : cg (fun e => gone e || e == w) m + 1 = cg gone m := by
  have e := sm_at (f := fun e => if gone e = true then 0 else 1) (f' := fun e => if (gone e || e == w) = true then 0 else 1) hw (fun j hj => by simp [hj])
  simp [h] at e
  unfold cg
  simp only [Bool.or_eq_true, beq_iff_eq]
  omega
theorem cg_none (m : Nat) : cg (fun _ => false) m = m := by
  unfold cg
  induction m with
  | zero => rfl
  | succ m ih => rw [sm_s, ih]; rfl
def bI (b : Bool) : Int32 := if b = true then 1 else 0
theorem bI_upd (gone : Nat → Bool) (w : Nat) : upd (fun e => bI (gone e)) w (nI 1) = fun e => bI (gone e || e == w) := by
  refine upd_ext ?_ (fun j hj => ?_)
  · simp [bI]; rfl
  · show bI (gone j || j == w) = bI (gone j)
    rw [beq_false_of_ne hj, Bool.or_false]
/-- where the knife stops for each; who stops it first -/
def kc (g : Nat → Nat → Nat) (n b l : Nat) : Nat → Nat := fun e => ct (g e) n b l 0
def kG (c : Nat → Nat) : Nat → Nat := fun e => 1000 - c e
def lst (c : Nat → Nat) : Option Nat → Nat
  | none => 0
  | some w => c w
def kn (g : Nat → Nat → Nat) (n m : Nat) : Nat → (Nat → Bool) → Nat → (Nat → Int32) → (Nat → Int32)
  | 0, _, _, ow => ow
  | l + 1, gone, b, ow => match bo (kG (kc g n b (l + 1))) gone m with
    | none => ow
    | some w => kn g n m l (fun e => gone e || e == w) (kc g n b (l + 1) w) (tkf ow b (kc g n b (l + 1) w) (nI w))
theorem kn_s {g : Nat → Nat → Nat} {n m l : Nat} {gone : Nat → Bool} {b w : Nat} {ow : Nat → Int32} (h : bo (kG (kc g n b (l + 1))) gone m = some w) : kn g n m (l + 1) gone b ow = kn g n m l (fun e => gone e || e == w) (kc g n b (l + 1) w) (tkf ow b (kc g n b (l + 1) w) (nI w)) := by
  rw [kn, h]
def wKnife (g : Nat → Nat → Nat) (n m : Nat) (ow : Nat → Int32) : Nat → Int32 := kn g n m m (fun _ => false) 0 ow
/-- three numbers -/
def t3 (a b c : Nat) : Nat → Nat := fun k => if k = 0 then a else if k = 1 then b else c
theorem t3_le {a b c N : Nat} (ha : a ≤ N) (hb : b ≤ N) (hc : c ≤ N) (k : Nat) : t3 a b c k ≤ N := by
  unfold t3; split
  · exact ha
  · split
    · exact hb
    · exact hc
/-- the best of the others -/
def sc (G : Nat → Nat) (b : Nat) : Nat → Nat
  | 0 => 0
  | p + 1 => if p = b then sc G b p else max (sc G b p) (G p)
theorem sc_le {G : Nat → Nat} {c : Nat} (h : ∀ k, G k ≤ c) (b n : Nat) : sc G b n ≤ c := by
  induction n with
  | zero => exact Nat.zero_le _
  | succ n ih =>
    rw [sc]; split
    · exact ih
    · exact Nat.max_le.mpr ⟨ih, h n⟩
/-- an end that goes back as long as what is left is as good as sec -/
def tm (f : Nat → Nat) (a sec : Nat) : Nat → Nat
  | 0 => 0
  | b + 1 => if a < b + 1 ∧ sec ≤ rn f a b then tm f a sec b else b + 1
theorem tm_le (f : Nat → Nat) (a sec b : Nat) : tm f a sec b ≤ b := by
  induction b with
  | zero => exact Nat.le_refl _
  | succ b ih => rw [tm]; split <;> omega
theorem tm_ge {f : Nat → Nat} {a sec b : Nat} (h : a ≤ b) : a ≤ tm f a sec b := by
  induction b with
  | zero => exact h
  | succ b ih =>
    rw [tm]; split
    · rename_i q; exact ih (by omega)
    · exact h
theorem tm_stop {f : Nat → Nat} {a sec b : Nat} (h : ¬ (a < b ∧ sec ≤ rn f a (b - 1))) : tm f a sec b = b := by
  cases b with
  | zero => rfl
  | succ b => rw [Nat.add_sub_cancel] at h; rw [tm, if_neg h]
theorem tm_step {f : Nat → Nat} {a sec b : Nat} (h : a < b ∧ sec ≤ rn f a (b - 1)) : tm f a sec b = tm f a sec (b - 1) := by
  cases b with
  | zero => omega
  | succ b => rw [Nat.add_sub_cancel] at h ⊢; rw [tm, if_pos h]
def msk (v : Int32) : Nat → Bool := fun p => decide (nI p = v)
def bd (g : Nat → Nat) (sk : Nat → Bool) (n : Nat) : Nat := (bo g sk n).getD 0
def gR (f : Nat → Nat) (bg en : Nat → Nat) : Nat → Nat := fun p => rn f (bg p) (en p)
/-- what trimming makes of two ends, the owners of the parts -/
def wT3 (bg en : Nat → Nat) (first mine : Nat) (rw : Nat → Int32) : Nat → Int32 :=
  tkf (tkf (tkf rw (bg first) (en first) (nI 2)) (bg mine) (en mine) (nI 1)) (bg (3 - first - mine)) (en (3 - first - mine)) (nI 0)
def wT2 (g : Nat → Nat → Nat) (bg en : Nat → Nat) (b1 : Nat) (rw : Nat → Int32) : Nat → Int32 :=
  wT3 bg en (bd (gR (g 2) bg en) (msk (-1)) 3) (if bd (gR (g 2) bg en) (msk (-1)) 3 = b1 then bd (gR (g 1) bg en) (msk (nI (bd (gR (g 2) bg en) (msk (-1)) 3))) 3 else b1) rw
def wT1 (g : Nat → Nat → Nat) (bg en : Nat → Nat) (b1 : Nat) (rw : Nat → Int32) : Nat → Int32 :=
  wT2 g bg (va_up en b1 (tm (g 1) (bg b1) (sc (gR (g 1) bg en) b1 3) (en b1))) b1 rw
def wTrim (g : Nat → Nat → Nat) (n : Nat) (rw : Nat → Int32) : Nat → Int32 :=
  wT1 g (t3 0 (ct (g 0) n 0 3 0) (ct (g 0) n 0 3 1)) (t3 (ct (g 0) n 0 3 0) (ct (g 0) n 0 3 1) n) (bd (gR (g 1) (t3 0 (ct (g 0) n 0 3 0) (ct (g 0) n 0 3 1)) (t3 (ct (g 0) n 0 3 0) (ct (g 0) n 0 3 1) n)) (msk (-1)) 3) rw
theorem msk_m1 {p : Nat} (h : p < 2 ^ 31) : msk (-1) p = false := decide_eq_false (oi_m1 h)
theorem msk_n {p q : Nat} (h : p < 2 ^ 31) (hq : q < 2 ^ 31) : msk (nI q) p = decide (p = q) := by
  unfold msk
  by_cases e : p = q
  · rw [decide_eq_true e, decide_eq_true (by rw [e])]
  · rw [decide_eq_false e, decide_eq_false (fun z => e ((nI_eq h hq).mp z))]
/-- the best of three, none skipped, or one -/
theorem bd_3 (G : Nat → Nat) : bo G (msk (-1)) 3 = some (bd G (msk (-1)) 3) ∧ bd G (msk (-1)) 3 < 3 := by
  obtain ⟨b, hb⟩ := bo_some (g := G) (sk := msk (-1)) (n := 3) ⟨0, by omega, msk_m1 (by omega)⟩
  unfold bd
  rw [hb]
  exact ⟨rfl, (bo_in hb).1⟩
theorem bd_2 (G : Nat → Nat) {q : Nat} (hq : q < 3) : bo G (msk (nI q)) 3 = some (bd G (msk (nI q)) 3) ∧ bd G (msk (nI q)) 3 < 3 ∧ bd G (msk (nI q)) 3 ≠ q := by
  have h : ∃ k, k < 3 ∧ msk (nI q) k = false := by
    by_cases e : q = 0
    · exact ⟨1, by omega, by rw [msk_n (by omega) (by omega)]; exact decide_eq_false (by omega)⟩
    · exact ⟨0, by omega, by rw [msk_n (by omega) (by omega)]; exact decide_eq_false (by omega)⟩
  obtain ⟨b, hb⟩ := bo_some (g := G) h
  unfold bd
  rw [hb]
  have h2 := bo_in hb
  refine ⟨rfl, h2.1, fun e => ?_⟩
  have h3 := h2.2
  rw [msk_n (by omega) (by omega)] at h3
  exact of_decide_eq_false h3 e
theorem fd_mono {P Q : Nat → Bool} (h : ∀ c, Q c = true → P c = true) (k a : Nat) : fd P a k ≤ fd Q a k := by
  induction k generalizing a with
  | zero => exact Nat.le_refl _
  | succ k ih =>
    rw [fd, fd]
    by_cases hq : Q a = true
    · rw [if_pos hq, if_pos (h a hq)]; exact Nat.le_refl _
    · rw [if_neg hq]
      split
      · have := (fd_le Q k (a + 1)).1; omega
      · exact ih (a + 1)
theorem ct_mono {f : Nat → Nat} {n b parts i j : Nat} (hb : b ≤ n) (hij : i ≤ j) (hj : j < parts) : ct f n b parts i ≤ ct f n b parts j := by
  by_cases h : j + 1 = parts
  · have := (ct_le (f := f) (n := n) (b := b) (parts := parts) (part := i) hb).2
    rw [ct, ct, if_pos h]
    rw [ct] at this
    exact this
  · rw [ct, ct, if_neg h, if_neg (by omega)]
    refine fd_mono (fun c hc => ?_) _ _
    have h1 := of_decide_eq_true hc
    exact decide_eq_true (Nat.le_trans (Nat.mul_le_mul_right _ (by omega)) h1)
