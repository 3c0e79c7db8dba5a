/-! MY BASE: cells by their classes, the world that nobody writes, calls that change nothing -/
set_option maxRecDepth 100000
abbrev xG : Type := va_G × (Nat → ClassId) × (Nat → Nat)
abbrev vwCl : List vw_C := [(RX1, TX1, 3), (RX2, TX2, 2), (RX3, TX3, 2), (RX4, TX4, 8), (RX5, TX5, 1), (RX6, TX6, 2), (RJ2, TJ2, 3), (RJ17, TJ17, 1)]
abbrev xTy (E : xG) : List (ClassId × FieldType) := [(E.2.1 0, .int), (E.2.1 1, .long), (E.2.1 2, .boolean), (E.2.1 3, .object "java/lang/Object"), (E.2.1 4, .object "CakeTastes$Run"), (E.2.1 5, .array .int)]
def xO (E : xG) (a ci : Nat) (fs : List Value) (H : Heap) : Prop := va_at E.1 vwCl (a, .inr (ci, fs)) H
def xI (E : xG) (a n : Nat) (f : Nat → Int32) (H : Heap) : Prop := va_at E.1 vwCl (a, .inl (E.2.1 0, n, .inl f)) H
def xJ (E : xG) (a n : Nat) (f : Nat → Int64) (H : Heap) : Prop := va_at E.1 vwCl (a, .inl (E.2.1 1, n, .inr (.inl f))) H
def xB (E : xG) (a n : Nat) (f : Nat → Int32) (H : Heap) : Prop := va_at E.1 vwCl (a, .inl (E.2.1 2, n, .inl f)) H
def xR (E : xG) (t a n : Nat) (f : Nat → Option Nat) (H : Heap) : Prop := va_at E.1 vwCl (a, .inl (E.2.1 t, n, .inr (.inr (.inr (.inr f))))) H
section XA
variable {E : xG} {a n ci t : Nat} {fs : List Value} {H H1 : Heap}
theorem xO.kept (h : xO E a ci fs H) (hq : H1[a]? = H[a]?) : xO E a ci fs H1 := va_at.kept (q := (a, .inr (ci, fs))) h hq
theorem xO.lt (h : xO E a ci fs H) : a < H.size := va_at.lt (q := (a, .inr (ci, fs))) h
theorem xI.kept {f : Nat → Int32} (h : xI E a n f H) (hq : H1[a]? = H[a]?) : xI E a n f H1 := va_at.kept (q := (a, .inl (E.2.1 0, n, .inl f))) h hq
theorem xI.lt {f : Nat → Int32} (h : xI E a n f H) : a < H.size := va_at.lt (q := (a, .inl (E.2.1 0, n, .inl f))) h
theorem xJ.kept {f : Nat → Int64} (h : xJ E a n f H) (hq : H1[a]? = H[a]?) : xJ E a n f H1 := va_at.kept (q := (a, .inl (E.2.1 1, n, .inr (.inl f)))) h hq
theorem xJ.lt {f : Nat → Int64} (h : xJ E a n f H) : a < H.size := va_at.lt (q := (a, .inl (E.2.1 1, n, .inr (.inl f)))) h
theorem xB.kept {f : Nat → Int32} (h : xB E a n f H) (hq : H1[a]? = H[a]?) : xB E a n f H1 := va_at.kept (q := (a, .inl (E.2.1 2, n, .inl f))) h hq
theorem xB.lt {f : Nat → Int32} (h : xB E a n f H) : a < H.size := va_at.lt (q := (a, .inl (E.2.1 2, n, .inl f))) h
theorem xR.kept {f : Nat → Option Nat} (h : xR E t a n f H) (hq : H1[a]? = H[a]?) : xR E t a n f H1 := va_at.kept (q := (a, .inl (E.2.1 t, n, .inr (.inr (.inr (.inr f)))))) h hq
theorem xR.lt {f : Nat → Option Nat} (h : xR E t a n f H) : a < H.size := va_at.lt (q := (a, .inl (E.2.1 t, n, .inr (.inr (.inr (.inr f)))))) h
theorem xP1 {D : va_G} {cl : List vw_C} {e : va_E} (h : va_at D cl (a, e) H) : va_P D cl [(a, e)] H := by
  intro k q hk
  cases k with
  | zero => cases hk; exact h
  | succ k => simp at hk
theorem xD1 {A : Nat → Prop} {e : va_E} (h : A a) : va_D A [(a, e)] := by
  refine ⟨fun i j p q hi hj _ => ?_, fun k q hk => ?_⟩
  · have h1 : i < 1 := (List.getElem?_eq_some_iff.mp hi).1
    have h2 : j < 1 := (List.getElem?_eq_some_iff.mp hj).1
    omega
  · cases k with
    | zero => cases hk; exact h
    | succ k => simp at hk
/-- a cell's class -/
def xCl (E : xG) : va_E → ClassId
  | .inl x => x.1
  | .inr o => E.1.1 o.1
theorem xCl_at {e : va_E} (h : va_at E.1 vwCl (a, e) H) : ∃ cell : Cell, H[a]? = some cell ∧ cell.cls = xCl E e := by
  cases e with
  | inl x =>
    refine ⟨_, h, ?_⟩
    obtain ⟨cA, n, f⟩ := x
    rcases f with f | f | f | f | f <;> rfl
  | inr o =>
    obtain ⟨r, -, cell, h1, h2, -⟩ := h
    exact ⟨cell, h1, h2⟩
theorem xne {b : Nat} {e e' : va_E} (h : va_at E.1 vwCl (a, e) H) (h' : va_at E.1 vwCl (b, e') H) (hn : xCl E e ≠ xCl E e') : a ≠ b := by
  rintro rfl
  obtain ⟨c1, p1, p2⟩ := xCl_at h
  obtain ⟨c2, q1, q2⟩ := xCl_at h'
  rw [p1] at q1
  cases q1
  exact hn (p2.symm.trans q2)
end XA
/-- the classes by their numbers: 0 to 7 objects, 8 to 13 arrays -/
def xId (E : xG) (k : Nat) : ClassId := if k < 8 then E.1.1 k else E.2.1 (k - 8)
def xNm (k : Nat) : String := match k with
  | 0 => RX1 | 1 => RX2 | 2 => RX3 | 3 => RX4 | 4 => RX5 | 5 => RX6 | 6 => RJ2 | 7 => RJ17
  | 8 => "[" ++ FieldType.int.toString | 9 => "[" ++ FieldType.long.toString | 10 => "[" ++ FieldType.boolean.toString
  | 11 => "[" ++ (FieldType.object "java/lang/Object").toString | 12 => "[" ++ (FieldType.object "CakeTastes$Run").toString | _ => "[" ++ (FieldType.array .int).toString
theorem xNm_inj : ∀ i, i < 14 → ∀ j, j < 14 → i ≠ j → xNm i ≠ xNm j := by decide +kernel
theorem xId_nm {E : xG} {U : State} (hK : va_K E.1 vwCl (xTy E) U) : ∀ k, k < 14 → U.vm.findClass (xNm k) = some (xId E k) := by
  intro k hk
  have ho : ∀ (i : Nat) (q : vw_C), vwCl[i]? = some q → U.vm.findClass q.1 = some (E.1.1 i) := fun i q h => (hK.1 i q h).2.1
  match k, hk with
  | 0, _ => exact ho 0 _ rfl
  | 1, _ => exact ho 1 _ rfl
  | 2, _ => exact ho 2 _ rfl
  | 3, _ => exact ho 3 _ rfl
  | 4, _ => exact ho 4 _ rfl
  | 5, _ => exact ho 5 _ rfl
  | 6, _ => exact ho 6 _ rfl
  | 7, _ => exact ho 7 _ rfl
  | 8, _ => exact (hK.2 0 _ rfl).2
  | 9, _ => exact (hK.2 1 _ rfl).2
  | 10, _ => exact (hK.2 2 _ rfl).2
  | 11, _ => obtain ⟨-, -, -, -, -, h4⟩ := (hK.2 3 _ rfl).2; exact h4
  | 12, _ => obtain ⟨-, -, -, -, -, h4⟩ := (hK.2 4 _ rfl).2; exact h4
  | 13, _ => exact (hK.2 5 _ rfl).2
  | k + 14, h => exact absurd h (by omega)
theorem xId_ne {E : xG} {U : State} (hK : va_K E.1 vwCl (xTy E) U) {i j : Nat} (hi : i < 14) (hj : j < 14) (h : i ≠ j) : xId E i ≠ xId E j := by
  intro e
  have h1 := xId_nm hK i hi
  have h2 := xId_nm hK j hj
  rw [← e] at h2
  obtain ⟨k1, a1, b1⟩ := Vm.findClass_spec h1
  obtain ⟨k2, a2, b2⟩ := Vm.findClass_spec h2
  rw [a1] at a2
  cases a2
  exact xNm_inj i hi j hj h (b1.symm.trans b2)
theorem xId_a (E : xG) (t : Nat) : xId E (t + 8) = E.2.1 t := by
  unfold xId
  rw [if_neg (by omega), Nat.add_sub_cancel]
section XB
variable {E : xG} {U : State} {a b n n2 i j t t2 : Nat} {fs gs : List Value} {H : Heap}
theorem xne_oo (hK : va_K E.1 vwCl (xTy E) U) (h1 : xO E a i fs H) (h2 : xO E b j gs H) (hi : i < 8) (hj : j < 8) (hij : i ≠ j) : a ≠ b :=
  xne h1 h2 (by have := xId_ne hK (i := i) (j := j) (by omega) (by omega) hij; simpa [xId, hi, hj, xCl] using this)
theorem xne_oi {f : Nat → Int32} (hK : va_K E.1 vwCl (xTy E) U) (h1 : xO E a i fs H) (h2 : xI E b n f H) (hi : i < 8) : a ≠ b :=
  xne h1 h2 (by have := xId_ne hK (i := i) (j := 8) (by omega) (by omega) (by omega); simpa [xId, hi, xCl] using this)
theorem xne_or {f : Nat → Option Nat} (hK : va_K E.1 vwCl (xTy E) U) (h1 : xO E a i fs H) (h2 : xR E t b n f H) (hi : i < 8) (ht : t < 6) : a ≠ b :=
  xne h1 h2 (by have := xId_ne hK (i := i) (j := t + 8) (by omega) (by omega) (by omega); rw [xId_a] at this; simpa [xId, hi, xCl] using this)
theorem xne_ir {f : Nat → Int32} {g : Nat → Option Nat} (hK : va_K E.1 vwCl (xTy E) U) (h1 : xI E a n f H) (h2 : xR E t b n2 g H) (ht : 0 < t) (ht6 : t < 6) : a ≠ b :=
  xne h1 h2 (by have := xId_ne hK (i := 0 + 8) (j := t + 8) (by omega) (by omega) (by omega); rw [xId_a, xId_a] at this; simpa [xCl] using this)
theorem xne_ib {f g : Nat → Int32} (hK : va_K E.1 vwCl (xTy E) U) (h1 : xI E a n f H) (h2 : xB E b n2 g H) : a ≠ b :=
  xne h1 h2 (by have := xId_ne hK (i := 8) (j := 10) (by omega) (by omega) (by omega); simpa [xId, xCl] using this)
theorem xne_rr {f g : Nat → Option Nat} (hK : va_K E.1 vwCl (xTy E) U) (h1 : xR E t a n f H) (h2 : xR E t2 b n2 g H) (h : t ≠ t2) (ht : t < 6) (ht2 : t2 < 6) : a ≠ b :=
  xne h1 h2 (by have := xId_ne hK (i := t + 8) (j := t2 + 8) (by omega) (by omega) (by omega); rw [xId_a, xId_a] at this; simpa [xCl] using this)
end XB
/-! ===== the tables' words that don't ride in the lists ===== -/
def xNw : List Cond := [
  .fieldLinkNest "CakeTastes$Way$4" 9 "CakeTastes$Table" "eaters" "Ljava/util/List;" "CakeTastes",
  .fieldLinkNest "CakeTastes" 48 "CakeTastes$Table" "slices" "Ljava/util/ArrayList;" "CakeTastes",
  .fieldLinkNest "CakeTastes$Table" 57 "CakeTastes$Slice" "sort" "I" "CakeTastes",
  .fieldLinkNest "CakeTastes" 67 "CakeTastes$Slice" "sort" "I" "CakeTastes",
  .fieldLinkNest "CakeTastes$Table" 71 "CakeTastes$Slice" "owner" "I" "CakeTastes",
  .fieldLinkNest "CakeTastes" 81 "CakeTastes$Slice" "owner" "I" "CakeTastes",
  .fieldLinkNest "CakeTastes$Table" 53 "CakeTastes$Eater" "tastes" "[I" "CakeTastes",
  .fieldLinkNest "CakeTastes" 77 "CakeTastes$Eater" "tastes" "[I" "CakeTastes",
  .methodLinkNest "CakeTastes" 53 ⟨"CakeTastes$Slice", "<init>", "()V"⟩ "CakeTastes",
  .methodLinkNest "CakeTastes$Table" 45 ⟨"CakeTastes$Run", "<init>", "(II)V"⟩ "CakeTastes",
  .methodLinkNest "CakeTastes$Way$4" 43 ⟨"CakeTastes$Run", "<init>", "(II)V"⟩ "CakeTastes",
  .castable "CakeTastes$Way$1" "CakeTastes$Way",
  .castable "CakeTastes$Way$2" "CakeTastes$Way",
  .castable "CakeTastes$Way$3" "CakeTastes$Way",
  .castable "CakeTastes$Way$4" "CakeTastes$Way",
  .castable "CakeTastes$Slice" "java/lang/Object",
  .castable "CakeTastes$Eater" "java/lang/Object",
  .castable "java/lang/Integer" "java/lang/Object",
  .castable "java/lang/IllegalArgumentException" "java/lang/IllegalArgumentException",
  .castable "java/lang/IndexOutOfBoundsException" "java/lang/IndexOutOfBoundsException",
  .castable "java/lang/IllegalStateException" "java/lang/IllegalStateException",
  .declares ⟨"CakeTastes$Way", "share", "(LCakeTastes$Table;)V"⟩]
theorem xNw_on : ∀ w ∈ xNw, w.onTables = true := by
  intro w hw
  simp only [xNw, List.mem_cons, List.not_mem_nil, or_false] at hw
  rcases hw with rfl | rfl | rfl | rfl | rfl | rfl | rfl | rfl | rfl | rfl | rfl | rfl | rfl | rfl | rfl | rfl | rfl | rfl | rfl | rfl | rfl | rfl <;> rfl
theorem xNw_warm {s U : State} (hW : s.WarmedH U.vm) (h : ∀ w ∈ xNw, va_Nw w s) : ∀ w ∈ xNw, va_Nw w U := by
  intro w hw
  have h := h w hw
  simp only [xNw, List.mem_cons, List.not_mem_nil, or_false] at hw
  rcases hw with rfl | rfl | rfl | rfl | rfl | rfl | rfl | rfl | rfl | rfl | rfl | rfl | rfl | rfl | rfl | rfl | rfl | rfl | rfl | rfl | rfl | rfl <;>
    first
    | exact va_Nw.warmF hW h
    | exact va_Nw.warmM hW h
    | exact va_Nw.warmC hW h
    | exact va_Nw.warmD hW h
def xNo : List (String × String) := [("java/lang/IllegalArgumentException", "java/lang/IndexOutOfBoundsException"), ("java/lang/IllegalStateException", "java/lang/IndexOutOfBoundsException"), ("java/lang/IndexOutOfBoundsException", "java/lang/IllegalArgumentException")]
abbrev ySize : MethodName := ⟨"java/util/List", "size", "()I"⟩
abbrev yGet : MethodName := ⟨"java/util/List", "get", "(I)Ljava/lang/Object;"⟩
def xFx (E : xG) (U : State) : Prop := va_AO "java/lang/Object" U ∧ va_AO "CakeTastes$Run" U ∧ va_Fw "java/util/ArrayList" ySize ⟨"java/util/ArrayList", "size", "()I"⟩ U ∧ va_Fw "java/util/ArrayList" yGet ⟨"java/util/ArrayList", "get", "(I)Ljava/lang/Object;"⟩ U ∧ va_Dc U ∧ va_Mi "[Ljava/lang/Object;" (E.2.2 5) U ∧ ∀ q ∈ xNo, va_Nc q.1 q.2 U
theorem xFx.moved {E : xG} {u U : State} (hvm : u.vm.Alike U.vm) (h : xFx E u) : xFx E U := by
  obtain ⟨h1, h2, h3, h4, h5, h6, h7⟩ := h
  exact ⟨va_AO.moved hvm h1, va_AO.moved hvm h2, va_Fw.moved (by decide) hvm h3, va_Fw.moved (by decide) hvm h4, va_Dc.moved hvm h5, va_Mi.moved hvm h6, fun q hq => va_Nc.moved hvm (h7 q hq)⟩
/-! ===== statics ===== -/
def xNeed (j : Nat) : Nat := if j = 0 then 2 else if j = 1 then 3 else 1
def xWayC (j : Nat) : String := if j = 0 then "CakeTastes$Way$1" else if j = 1 then "CakeTastes$Way$2" else if j = 2 then "CakeTastes$Way$3" else "CakeTastes$Way$4"
def xSt (E : xG) (A : Nat → Prop) (U : State) (H : Heap) : Prop :=
  va_Z "CakeTastes" "WAYS" "[LCakeTastes$Way;" (.ref (E.2.2 0)) A U H ∧
  va_T (.object "CakeTastes$Way") (E.2.2 0) 4 (fun j => .ref (E.2.2 (10 + j))) A U H ∧
  va_Z "CakeTastesModel" "ASKED" "[I" (.ref (E.2.2 1)) A U H ∧
  va_T .int (E.2.2 1) 4 (fun j => .int (nI (xNeed j))) A U H ∧
  va_Z "java/util/ArrayList" "DEFAULTCAPACITY_EMPTY_ELEMENTDATA" "[Ljava/lang/Object;" (.ref (E.2.2 2)) A U H ∧
  va_T (.object "java/lang/Object") (E.2.2 2) 0 (fun _ => .null) A U H ∧
  va_Z "java/util/Optional" "EMPTY" "Ljava/util/Optional;" (.ref (E.2.2 3)) A U H ∧
  va_O "java/util/Optional" (E.2.2 3) A U H ∧
  va_OF "java/util/Optional" "value" "Ljava/lang/Object;" .null (E.2.2 3) A U H ∧
  va_Z "java/lang/Integer$IntegerCache" "high" "I" (.int 127) A U H ∧
  va_Z "java/lang/Integer$IntegerCache" "cache" "[Ljava/lang/Integer;" (.ref (E.2.2 4)) A U H ∧
  va_T (.object "java/lang/Integer") (E.2.2 4) 256 (fun j => .ref (E.2.2 (300 + j))) A U H ∧
  vb_C (fun j => E.2.2 (300 + j)) A U H ∧
  vx_Zq Bundle.tN "UNASSIGNED_STACK" Bundle.steD A U H ∧
  vx_Zq Bundle.tN "SUPPRESSED_SENTINEL" Bundle.listD A U H ∧
  (∀ j, j < 4 → va_O (xWayC j) (E.2.2 (10 + j)) A U H) ∧
  (∀ j, j < 4 → va_OF "CakeTastes$Way" "needs" "I" (.int (nI (xNeed j))) (E.2.2 (10 + j)) A U H)
theorem xSt.at {E : xG} {A B : Nat → Prop} {s U : State} {H0 H : Heap} {locs : List Loc} (h : xSt E A s H0) (hS : va_S A H0 H locs) (hB : ∀ q, B q → A q) (hv : s.vm.Alike U.vm) : xSt E B U H := by
  obtain ⟨h1, h2, h3, h4, h5, h6, h7, h8, h9, h10, h11, h12, h13, h14, h15, h16, h17⟩ := h
  have k := hS.2.1
  exact ⟨va_Z.moved hv ((h1.kept k).narrow hB), va_T.moved hv ((h2.kept k).narrow hB), va_Z.moved hv ((h3.kept k).narrow hB), va_T.moved hv ((h4.kept k).narrow hB),
    va_Z.moved hv ((h5.kept k).narrow hB), va_T.moved hv ((h6.kept k).narrow hB), va_Z.moved hv ((h7.kept k).narrow hB), va_O.moved hv ((h8.kept k).narrow hB), va_OF.moved hv ((h9.kept k).narrow hB),
    va_Z.moved hv ((h10.kept k).narrow hB), va_Z.moved hv ((h11.kept k).narrow hB), va_T.moved hv ((h12.kept k).narrow hB), vb_C.moved hv ((h13.kept k).narrow hB), vx_Zq.moved hv ((h14.kept k).narrow hB), vx_Zq.moved hv ((h15.kept k).narrow hB),
    fun j hj => va_O.moved hv (((h16 j hj).kept k).narrow hB), fun j hj => va_OF.moved hv (((h17 j hj).kept k).narrow hB)⟩
/-- what every method may lean on: the classes, the tables' words, the statics, of which none is among the cells A that may change -/
def xE (E : xG) (A : Nat → Prop) (U : State) (H : Heap) : Prop := va_K E.1 vwCl (xTy E) U ∧ (∀ w ∈ xNw, va_Nw w U) ∧ xFx E U ∧ xSt E A U H
theorem xE.at {E : xG} {A B : Nat → Prop} {s U : State} {H0 H : Heap} {locs : List Loc} (h : xE E A s H0) (hS : va_S A H0 H locs) (hB : ∀ q, B q → A q) (hW : s.WarmedH U.vm) : xE E B U H :=
  ⟨va_K.moved hW.alike h.1, xNw_warm hW h.2.1, xFx.moved hW.alike h.2.2.1, h.2.2.2.at hS hB hW.alike⟩
theorem xE.blind {E : xG} {A : Nat → Prop} {u U : State} {H : Heap} (h : xE E A u H) (e : u.vm = U.vm) : xE E A U H :=
  h.at va_S.rf (fun _ h => h) (by rw [← e]; exact State.WarmedH.refl u)
def xPre (E : xG) (A : Nat → Prop) (av : List Value) (P : Heap → Prop) : Array Value → State → Prop := fun v U => v = av.toArray ∧ xE E A U U.heap ∧ P U.heap
theorem xPre_blind {E : xG} {A : Nat → Prop} {av : List Value} {P : Heap → Prop} : FrameBlind (xPre E A av P) := by
  intro a U g mk h
  exact ⟨h.1, h.2.1.blind (U := U.calling g mk a) rfl, h.2.2⟩
theorem xPre_at {E : xG} {A B : Nat → Prop} {s U : State} {H0 H : Heap} {locs : List Loc} {av : List Value} {P : Heap → Prop} (h : xE E A s H0) (hS : va_S A H0 H locs) (hB : ∀ q, B q → A q) (hP : P H) (hU : U.heap = H) (hW : s.WarmedH U.vm) : xPre E B av P av.toArray U := by
  refine ⟨rfl, ?_, ?_⟩
  · rw [hU]; exact h.at hS hB hW
  · rw [hU]; exact hP
/-! ===== ends ===== -/
def xRo (v : Value) : Array Value → State → Outcome → State → Prop := fun _ st oc t => oc = .returned (some v) ∧ t.heap = st.heap
def xRv : Array Value → State → Outcome → State → Prop := fun _ st oc t => oc = .returned none ∧ t.heap = st.heap
def xQ (A : Nat → Prop) (P : Value → Heap → Prop) : Array Value → State → Outcome → State → Prop := fun _ st oc t => (∃ v : Value, oc = .returned (some v) ∧ P v t.heap) ∧ va_F A st t
def xQv (A : Nat → Prop) (P : Heap → Prop) : Array Value → State → Outcome → State → Prop := fun _ st oc t => (oc = .returned none ∧ P t.heap) ∧ va_F A st t
/-- what is new alone -/
abbrev xNew (sz : Nat) : Nat → Prop := fun q => sz ≤ q
