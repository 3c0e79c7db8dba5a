/-! THE WHOLE MODEL's PICTURE -/
def xMd (mo aS aT aW aO : Nat) (tr : Nat → Nat) : Prop := (mo ≠ aS ∧ mo ≠ aT ∧ mo ≠ aW ∧ mo ≠ aO ∧ aS ≠ aT ∧ aS ≠ aW ∧ aS ≠ aO ∧ aT ≠ aW ∧ aT ≠ aO ∧ aW ≠ aO) ∧ (∀ i, i < 5 → tr i ≠ mo ∧ tr i ≠ aS ∧ tr i ≠ aT ∧ tr i ≠ aW ∧ tr i ≠ aO) ∧ ∀ i, i < 5 → ∀ j, j < 5 → tr i = tr j → i = j
def xMF (mo aS aT aW aO : Nat) (tr : Nat → Nat) (q : Nat) : Prop := xMf mo aS aT tr q ∨ q = aW ∨ q = aO
def xM (E : xG) (mo aS aT aW aO : Nat) (tr : Nat → Nat) (th : Int32) (n : Nat) (so : Nat → Nat) (m : Nat) (ts : Nat → Nat → Nat) (sh : Int32) (ow ot : Nat → Int32) (H : Heap) : Prop :=
  xM0 E mo aS aT aW aO tr th n so m ts sh H ∧ xI E aW 40 ow H ∧ xI E aO 40 ot H
section XMX
variable {E : xG} {mo aS aT aW aO : Nat} {tr : Nat → Nat} {th th' : Int32} {n n' : Nat} {so so' : Nat → Nat} {m m' : Nat} {ts ts' : Nat → Nat → Nat} {sh sh' : Int32} {ow ow' ot ot' : Nat → Int32} {H H1 : Heap}
theorem xM.lt (h : xM E mo aS aT aW aO tr th n so m ts sh ow ot H) {q : Nat} (hq : xMF mo aS aT aW aO tr q) : q < H.size := by
  rcases hq with hq | rfl | rfl
  · exact h.1.lt hq
  · exact h.2.1.lt
  · exact h.2.2.lt
theorem xM.kept (h : xM E mo aS aT aW aO tr th n so m ts sh ow ot H) (hq : ∀ q, xMF mo aS aT aW aO tr q → H1[q]? = H[q]?) : xM E mo aS aT aW aO tr th n so m ts sh ow ot H1 :=
  ⟨h.1.kept (fun q h => hq q (Or.inl h)), h.2.1.kept (hq _ (Or.inr (Or.inl rfl))), h.2.2.kept (hq _ (Or.inr (Or.inr rfl)))⟩
/-- a number of the model itself is written -/
theorem xM.put (h : xM E mo aS aT aW aO tr th n so m ts sh ow ot H) (hd : xMd mo aS aT aW aO tr) (hO : xO E mo 3 [.int th', .int (nI n'), .ref aS, .int (nI m'), .ref aT, .int sh', .ref aW, .ref aO] H1) (ho : ∀ q, q < H.size → q ≠ mo → H1[q]? = H[q]?) : xM E mo aS aT aW aO tr th' n' so m' ts sh' ow ot H1 := by
  obtain ⟨⟨h1, h2, h3, h4⟩, h5, h6⟩ := h
  obtain ⟨⟨d1, d2, d3, d4, -⟩, e1, -⟩ := hd
  exact ⟨⟨hO, h2.kept (ho _ h2.lt d1.symm), h3.kept (ho _ h3.lt d2.symm), fun i hi => (h4 i hi).kept (ho _ (h4 i hi).lt (e1 i hi).1)⟩, h5.kept (ho _ h5.lt d3.symm), h6.kept (ho _ h6.lt d4.symm)⟩
theorem xM.setW (h : xM E mo aS aT aW aO tr th n so m ts sh ow ot H) (hd : xMd mo aS aT aW aO tr) (hI : xI E aW 40 ow' H1) (ho : ∀ q, q < H.size → q ≠ aW → H1[q]? = H[q]?) : xM E mo aS aT aW aO tr th n so m ts sh ow' ot H1 := by
  obtain ⟨⟨h1, h2, h3, h4⟩, h5, h6⟩ := h
  obtain ⟨⟨d1, d2, d3, d4, d5, d6, d7, d8, d9, d10⟩, e1, -⟩ := hd
  exact ⟨⟨h1.kept (ho _ h1.lt d3), h2.kept (ho _ h2.lt d6), h3.kept (ho _ h3.lt d8), fun i hi => (h4 i hi).kept (ho _ (h4 i hi).lt (e1 i hi).2.2.2.1)⟩, hI, h6.kept (ho _ h6.lt d10.symm)⟩
theorem xM.setO (h : xM E mo aS aT aW aO tr th n so m ts sh ow ot H) (hd : xMd mo aS aT aW aO tr) (hI : xI E aO 40 ot' H1) (ho : ∀ q, q < H.size → q ≠ aO → H1[q]? = H[q]?) : xM E mo aS aT aW aO tr th n so m ts sh ow ot' H1 := by
  obtain ⟨⟨h1, h2, h3, h4⟩, h5, h6⟩ := h
  obtain ⟨⟨d1, d2, d3, d4, d5, d6, d7, d8, d9, d10⟩, e1, -⟩ := hd
  exact ⟨⟨h1.kept (ho _ h1.lt d4), h2.kept (ho _ h2.lt d7), h3.kept (ho _ h3.lt d9), fun i hi => (h4 i hi).kept (ho _ (h4 i hi).lt (e1 i hi).2.2.2.2)⟩, h5.kept (ho _ h5.lt d10), hI⟩
theorem xM.setS (h : xM E mo aS aT aW aO tr th n so m ts sh ow ot H) (hd : xMd mo aS aT aW aO tr) (hI : xI E aS 40 (fun k => nI (so' k)) H1) (ho : ∀ q, q < H.size → q ≠ aS → H1[q]? = H[q]?) : xM E mo aS aT aW aO tr th n so' m ts sh ow ot H1 := by
  obtain ⟨⟨h1, h2, h3, h4⟩, h5, h6⟩ := h
  obtain ⟨⟨d1, d2, d3, d4, d5, d6, d7, d8, d9, d10⟩, e1, -⟩ := hd
  exact ⟨⟨h1.kept (ho _ h1.lt d1), hI, h3.kept (ho _ h3.lt d5.symm), fun i hi => (h4 i hi).kept (ho _ (h4 i hi).lt (e1 i hi).2.1)⟩, h5.kept (ho _ h5.lt d6.symm), h6.kept (ho _ h6.lt d7.symm)⟩
theorem xM.setT (h : xM E mo aS aT aW aO tr th n so m ts sh ow ot H) (hd : xMd mo aS aT aW aO tr) {i : Nat} (hi : i < 5) (hI : xI E (tr i) 5 (fun j => nI (ts' i j)) H1) (ht : ∀ e, e ≠ i → ts' e = ts e) (ho : ∀ q, q < H.size → q ≠ tr i → H1[q]? = H[q]?) : xM E mo aS aT aW aO tr th n so m ts' sh ow ot H1 := by
  obtain ⟨⟨h1, h2, h3, h4⟩, h5, h6⟩ := h
  obtain ⟨-, e1, e2⟩ := hd
  obtain ⟨f1, f2, f3, f4, f5⟩ := e1 i hi
  refine ⟨⟨h1.kept (ho _ h1.lt f1.symm), h2.kept (ho _ h2.lt f2.symm), h3.kept (ho _ h3.lt f3.symm), fun j hj => ?_⟩, h5.kept (ho _ h5.lt f4.symm), h6.kept (ho _ h6.lt f5.symm)⟩
  by_cases e : j = i
  · subst e; exact hI
  · rw [ht j e]
    exact (h4 j hj).kept (ho _ (h4 j hj).lt (fun q => e (e2 j hj i hi q)))
theorem xMd.w (hd : xMd mo aS aT aW aO tr) : ∀ q, xMf mo aS aT tr q → q ≠ aW := by
  obtain ⟨⟨d1, d2, d3, d4, d5, d6, d7, d8, d9, d10⟩, e1, -⟩ := hd
  rintro q (rfl | rfl | rfl | ⟨i, hi, rfl⟩)
  · exact d3
  · exact d6
  · exact d8
  · exact (e1 i hi).2.2.2.1
theorem xMd.o (hd : xMd mo aS aT aW aO tr) : ∀ q, xMf mo aS aT tr q → q ≠ aO := by
  obtain ⟨⟨d1, d2, d3, d4, d5, d6, d7, d8, d9, d10⟩, e1, -⟩ := hd
  rintro q (rfl | rfl | rfl | ⟨i, hi, rfl⟩)
  · exact d4
  · exact d7
  · exact d9
  · exact (e1 i hi).2.2.2.2
end XMX
/-! pure: what is told -/
def prs (g : Nat → Nat → Nat) (ow : Nat → Int32) (n m e : Nat) : Nat := sm (fun o => if 0 < ey g ow n e o then 1 else 0) m
def fair (g : Nat → Nat → Nat) (ow : Nat → Int32) (n m e : Nat) : Prop := rn (g e) 0 n ≤ wo (g e) ow (nI e) n * m
def fairN (g : Nat → Nat → Nat) (ow : Nat → Int32) (n m e : Nat) : Nat := if rn (g e) 0 n ≤ wo (g e) ow (nI e) n * m then 1 else 0
def tld (g : Nat → Nat → Nat) (ow : Nat → Int32) (n m e what : Nat) : Nat :=
  if what = 0 then mn ow (nI e) n else if what = 1 then wo (g e) ow (nI e) n else if what = 2 then rn (g e) 0 n else if what = 3 then prs g ow n m e else if what = 4 then mx (fun o => ey g ow n e o) m else fairN g ow n m e
def cnt (g : Nat → Nat → Nat) (ow : Nat → Int32) (n m : Nat) (sh : Int32) (what : Nat) : Int32 :=
  if what = 0 then nI n else if what = 1 then nI m else if what = 2 then nI (mn ow (-1) n) else if what = 3 then nI (sm (fun e => prs g ow n m e) m) else if what = 4 then nI (ae g ow n m) else if what = 5 then nI (sm (fun e => fairN g ow n m e) m) else sh
def btr (g : Nat → Nat → Nat) (ow : Nat → Int32) (n a b : Nat) : Prop := wo (g a) ow (nI a) n < wo (g a) ow (nI b) n ∧ wo (g b) ow (nI b) n < wo (g b) ow (nI a) n
def btrN (g : Nat → Nat → Nat) (ow : Nat → Int32) (n a b : Nat) : Nat := if wo (g a) ow (nI a) n < wo (g a) ow (nI b) n ∧ wo (g b) ow (nI b) n < wo (g b) ow (nI a) n then 1 else 0
theorem bk_s (so : Nat → Nat) (k : Nat) : upd (fun i => nI ((fun i => if i < k then 0 else so i) i)) k (nI 0) = fun i => nI ((fun i => if i < k + 1 then 0 else so i) i) := by
  refine upd_ext ?_ (fun j hj => ?_)
  · show nI (if k < k + 1 then 0 else so k) = nI 0
    rw [if_pos (by omega)]
  · show nI (if j < k + 1 then 0 else so j) = nI (if j < k then 0 else so j)
    by_cases h : j < k
    · rw [if_pos h, if_pos (by omega)]
    · rw [if_neg h, if_neg (by omega)]
theorem upd_nI (so : Nat → Nat) (i j : Nat) : upd (fun k => nI (so k)) i (nI j) = fun k => nI (va_up so i j k) := by
  refine upd_ext ?_ (fun k hk => ?_)
  · show nI (va_up so i j i) = nI j
    rw [va_up_self]
  · show nI (va_up so i j k) = nI (so k)
    rw [va_up_ne _ _ hk]
theorem cm_s (ts : Nat → Nat → Nat) (m k : Nat) : upd (fun j => nI ((fun e j => if e = m ∧ j < k then 1 else ts e j) m j)) k (nI 1) = fun j => nI ((fun e j => if e = m ∧ j < k + 1 then 1 else ts e j) m j) := by
  refine upd_ext ?_ (fun j hj => ?_)
  · show nI (if m = m ∧ k < k + 1 then 1 else ts m k) = nI 1
    rw [if_pos ⟨rfl, by omega⟩]
  · show nI (if m = m ∧ j < k + 1 then 1 else ts m j) = nI (if m = m ∧ j < k then 1 else ts m j)
    by_cases h : j < k
    · rw [if_pos (show m = m ∧ j < k + 1 from ⟨rfl, by omega⟩), if_pos (show m = m ∧ j < k from ⟨rfl, h⟩)]
    · rw [if_neg (show ¬ (m = m ∧ j < k + 1) from fun q => by omega), if_neg (show ¬ (m = m ∧ j < k) from fun q => h q.2)]
theorem st_s (ts : Nat → Nat → Nat) (e j v : Nat) : upd (fun k => nI (ts e k)) j (nI v) = fun k => nI (va_up ts e (va_up (ts e) j v) e k) := by
  rw [va_up_self]
  exact upd_nI (ts e) j v
