/-! THE MODEL's PICTURE -/
def xM0 (E : xG) (mo aS aT aW aO : Nat) (tr : Nat → Nat) (th : Int32) (n : Nat) (so : Nat → Nat) (m : Nat) (ts : Nat → Nat → Nat) (sh : Int32) (H : Heap) : Prop :=
  xO E mo 3 [.int th, .int (nI n), .ref aS, .int (nI m), .ref aT, .int sh, .ref aW, .ref aO] H ∧ xI E aS 40 (fun k => nI (so k)) H ∧ xR E 5 aT 5 (fun i => some (tr i)) H ∧ ∀ i, i < 5 → xI E (tr i) 5 (fun j => nI (ts i j)) H
def xMf (mo aS aT : Nat) (tr : Nat → Nat) (q : Nat) : Prop := q = mo ∨ q = aS ∨ q = aT ∨ ∃ i, i < 5 ∧ q = tr i
theorem xM0.kept {E : xG} {mo aS aT aW aO : Nat} {tr : Nat → Nat} {th : Int32} {n : Nat} {so : Nat → Nat} {m : Nat} {ts : Nat → Nat → Nat} {sh : Int32} {H H1 : Heap} (h : xM0 E mo aS aT aW aO tr th n so m ts sh H) (hq : ∀ q, xMf mo aS aT tr q → H1[q]? = H[q]?) : xM0 E mo aS aT aW aO tr th n so m ts sh H1 :=
  ⟨h.1.kept (hq _ (Or.inl rfl)), h.2.1.kept (hq _ (Or.inr (Or.inl rfl))), h.2.2.1.kept (hq _ (Or.inr (Or.inr (Or.inl rfl)))), fun i hi => (h.2.2.2 i hi).kept (hq _ (Or.inr (Or.inr (Or.inr ⟨i, hi, rfl⟩))))⟩
theorem xM0.lt {E : xG} {mo aS aT aW aO : Nat} {tr : Nat → Nat} {th : Int32} {n : Nat} {so : Nat → Nat} {m : Nat} {ts : Nat → Nat → Nat} {sh : Int32} {H : Heap} (h : xM0 E mo aS aT aW aO tr th n so m ts sh H) {q : Nat} (hq : xMf mo aS aT tr q) : q < H.size := by
  rcases hq with rfl | rfl | rfl | ⟨i, hi, rfl⟩
  · exact h.1.lt
  · exact h.2.1.lt
  · exact h.2.2.1.lt
  · exact (h.2.2.2 i hi).lt
