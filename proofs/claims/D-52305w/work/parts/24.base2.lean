/-! MORE OF THE BASE -/
theorem arrV_ext {cA : ClassId} {n : Nat} {f g : Nat → Value} (h : ∀ j, j < n → f j = g j) : arrV cA n f = arrV cA n g := by
  unfold arrV
  congr 1
  congr 1
  funext j
  exact h j.val j.isLt
theorem xI.to {E : xG} {a n : Nat} {f g : Nat → Int32} {H : Heap} (h : xI E a n f H) (hf : ∀ j, j < n → f j = g j) : xI E a n g H := by
  show H[a]? = some (vp_cell _ _)
  rw [vp_cell_i, ← arrV_ext (f := fun j => .int (f j)) (fun j hj => by rw [hf j hj])]
  exact h
theorem xR.to {E : xG} {t a n : Nat} {f g : Nat → Option Nat} {H : Heap} (h : xR E t a n f H) (hf : ∀ j, j < n → f j = g j) : xR E t a n g H := by
  show H[a]? = some (vp_cell _ _)
  rw [vp_cell_q, ← arrV_ext (f := fun j => va_rf (f j)) (fun j hj => by rw [hf j hj])]
  exact h
theorem upd_up (en : Nat → Nat) (b z y : Nat) : upd (fun k => nI (va_up en b z k)) b (nI y) = fun k => nI (va_up en b y k) := by
  refine upd_ext ?_ (fun j hj => ?_)
  · show nI (va_up en b y b) = nI y
    rw [va_up_self]
  · show nI (va_up en b y j) = nI (va_up en b z j)
    rw [va_up_ne _ _ hj, va_up_ne _ _ hj]
def wGive (g : Nat → Nat → Nat) (n m way : Nat) : Nat → Int32 := if way = 0 then wHalf g n (fun _ => -1) else if way = 1 then wTrim g n (fun _ => -1) else if way = 2 then wTurns g n m (fun _ => -1) 0 else wKnife g n m (fun _ => -1)
