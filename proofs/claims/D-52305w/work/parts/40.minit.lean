/-! THE MODEL's CONSTRUCTOR: its grid -/
set_option maxRecDepth 100000
def xAA (U : State) : Prop := (Cond.arrayOver (.array .int)).before #[] U = true
theorem xAA.moved {u U : State} (hvm : u.vm.Alike U.vm) (h : xAA u) : xAA U := by
  unfold xAA Cond.before Cond.holds at h
  simp only [Cond.value, beq_iff_eq] at h
  unfold xAA Cond.before Cond.holds
  simp only [Cond.value, beq_iff_eq]
  cases hc : u.vm.findClass (FieldType.array .int).toString with
  | none => simp [hc] at h
  | some comp =>
    simp only [hc, Option.bind_some, Option.bind_eq_some_iff, Option.map_eq_some_iff] at h
    obtain ⟨c, hi, k, hk, hb⟩ := h
    have f1 : U.vm.findClass (FieldType.array .int).toString = some comp := by rw [hvm.findClass]; exact hc
    have e1 := va_idx_bare U.vm comp
    have e2 := va_idx_bare u.vm comp
    rw [hvm.bare_eq] at e1
    have hi' := e1.symm.trans (e2.trans hi)
    obtain ⟨k', hk', he⟩ := hvm.2.2 _ _ hk
    simp only [f1, Option.bind_some, Option.bind_eq_some_iff, Option.map_eq_some_iff]
    refine ⟨c, hi', k', hk', ?_⟩
    rw [he]
    rw [hvm.findClass]
    exact hb
theorem outer_arr (c : ClassId) (N h0 : Nat) : ∀ i, i ≤ N → Jvm.Free.Multi.outerC c N h0 i = arrV c N (fun j => if j < i then .ref (h0 + 1 + j) else .null)
  | 0, _ => by
    rw [Jvm.Free.Multi.outerC, arrV_new]
    exact arrV_ext (fun j _ => by simp)
  | i + 1, h => by
    rw [Jvm.Free.Multi.outerC, outer_arr c N h0 i (by omega), arrV_store]
    refine arrV_ext (fun j _ => ?_)
    unfold updV
    by_cases e : j = i
    · subst e; simp
    · by_cases q : j < i
      · rw [if_neg e, if_pos (show j < i + 1 by omega)]; exact if_pos q
      · rw [if_neg e, if_neg (show ¬ j < i + 1 by omega)]; exact if_neg q
section XMUL
variable {p : Program} {l : Launch} {e : Env} {R : Room} {s : State} {m : MethodId} {args : Array Value} {below : List Frame} {meth : Method} {c : Code} {H : Heap} {locs : List Loc} {cells slots : Nat} {Q : State → Prop}
variable {cc : ByteArray} {pc : Nat} {ls : Array Slot} {rest st0 : List Value} {E : xG} {A : Nat → Prop} {a : Nat} {H0 : Heap}
theorem xr_multi (hx : p.tables.exec = Jvm.exec) (hb : c.code = cc) {own : String} {index : Nat} (hown : s.vm.findClass own = some m.cls) (hclink : (Cond.classLink own index "[[I").before args s = true) (hover : xAA s) (harr : (Cond.arrayClass .int).before args s = true) (hE : xE E A s H0) (hS : va_S A H0 H locs) {n k : Nat} (hn : n ≤ 100) (hk : k ≤ 100) (hcells : cells + (1 + n) ≤ R.cells) (hslots : slots + (n + n * k) ≤ R.slots) (hdg : decode cc pc = .ok (.multianewarray index 2, 4))
    (kk : ∀ (q : Nat) (H1 : Heap), q = H.size → xR E 5 q n (fun i => some (q + 1 + i)) H1 → (∀ i, i < n → xI E (q + 1 + i) k (fun _ => 0) H1) → H1.size = H.size + 1 + n → (∀ x, x < H.size → H1[x]? = H[x]?) → va_S A H0 H1 locs →
      W p l e R s m args below meth c H1 locs (cells + 1 + n) (slots + n + n * k) Q (F0 m (pc + 4) ls (.ref q :: rest))) : W p l e R s m args below meth c H locs cells slots Q (F0 m pc ls (.int (nI k) :: .int (nI n) :: rest)) := by
  intro T hT X
  have cn : (nI n).toNatClampNeg = n := nI_clamp (by omega)
  have ck : (nI k).toNatClampNeg = k := nI_clamp (by omega)
  have hmul : n * k ≤ 100 * 100 := Nat.mul_le_mul hn hk
  obtain ⟨vm₁, cA, comp, hW1, hfA, hfC, -, -, X1, step⟩ := X.multianewarray2F hx (own := own) (index := index) (ty := .int) hown hclink hover harr
    (g := F0 m pc ls (.int (nI k) :: .int (nI n) :: rest)) rfl (by rw [hb]; exact hdg) (n := nI n) (k := nI k) (rest := rest) rfl (nI_pos (by omega)) (nI_pos (by omega))
    (by rw [cn]; omega) (by rw [ck]; show k * 4 ≤ _; omega) (by rw [ck]; omega) rfl rfl (by rw [cn]; exact hcells) (by rw [cn, ck]; exact hslots)
  rw [cn, ck] at X1 step
  obtain ⟨f1, f2, f3, f4⟩ := Jvm.Free.Multi.fill_facts (T.setVm vm₁) cA comp n k (defaultValue .int) n
  obtain ⟨o1, o2, o3⟩ := Jvm.Free.Multi.outerC_facts cA n (T.setVm vm₁).heap.size n
  have hsz : (T.setVm vm₁).heap.size = H.size := by rw [← hT]; rfl
  have hcA : cA = E.2.1 5 := Option.some.inj (hfA.symm.trans (hE.1.2 5 _ rfl).2)
  have hcI : comp = E.2.1 0 := Option.some.inj (hfC.symm.trans (hE.1.2 0 _ rfl).2)
  subst hcA
  subst hcI
  have k1 : xR E 5 H.size n (fun i => some (H.size + 1 + i)) (Jvm.Free.Multi.fill (T.setVm vm₁) (E.2.1 5) (E.2.1 0) n k (defaultValue .int) n).heap := by
    show _ = some (vp_cell _ _)
    rw [vp_cell_q, ← hsz, f2]
    congr 1
    rw [outer_arr _ _ _ n (Nat.le_refl _)]
    exact arrV_ext (fun j hj => by simp [hj, va_rf])
  have k2 : ∀ i, i < n → xI E (H.size + 1 + i) k (fun _ => 0) (Jvm.Free.Multi.fill (T.setVm vm₁) (E.2.1 5) (E.2.1 0) n k (defaultValue .int) n).heap := by
    intro i hi
    show _ = some (vp_cell _ _)
    rw [vp_cell_i, ← hsz, Jvm.Free.Multi.fill_inner _ _ _ _ _ _ _ i hi]
    congr 1
    exact arrV_new _ k _
  have k3 : ∀ x, x < H.size → (Jvm.Free.Multi.fill (T.setVm vm₁) (E.2.1 5) (E.2.1 0) n k (defaultValue .int) n).heap[x]? = H[x]? := by
    intro x hx1
    rw [Jvm.Free.Multi.fill_old (T.setVm vm₁) _ _ _ _ _ (by rw [hsz]; exact hx1)]
    show T.heap[x]? = _
    rw [hT]
  obtain ⟨t, a1, b1⟩ := kk H.size _ rfl k1 k2 (by rw [f1, hsz]) k3 ⟨Nat.le_trans hS.1 (by rw [f1, hsz]; omega), fun x h1 h2 => (k3 x (Nat.lt_of_lt_of_le h1 hS.1)).trans (hS.2.1 x h1 h2), hS.2.2⟩ _ rfl X1
  refine ⟨t, step t ?_, b1⟩
  rw [show T.heap.size = H.size by rw [hT]]
  exact a1
end XMUL
