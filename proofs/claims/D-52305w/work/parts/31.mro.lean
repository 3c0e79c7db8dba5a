set_option maxHeartbeats 4000000 in
set_option maxRecDepth 100000 in
theorem mt_likes (l : Launch) (E : xG) (A : Nat → Prop) (mo aS aT aW aO : Nat) (tr : Nat → Nat) (th : Int32) (n : Nat) (so : Nat → Nat) (m : Nat) (ts : Nat → Nat → Nat) (sh : Int32) (e k : Nat) (he : e < 5) (hk : k < 40) (hso : ∀ k, so k < 5) : Met l yX4_likes (ws_ yX4_likes cX4_likes 3 (some .int)) ({ frames := 1, cells := 0, slots := 0, locals := 40 } : Room) (xPre E A [.ref mo, .int (nI e), .int (nI k)] (fun H => xM0 E mo aS aT aW aO tr th n so m ts sh H)) (xRo (.int (nI (tk ts so e k)))) 0 0 (fun _ => False) := by
  refine Met.ofW (cc := cX4_likes) (maxL := 3) (ret := (some .int)) (by decide) rfl ?_
  intro P0 e0 s m0 args below meth c0 s₁ B hml hv
  obtain ⟨rfl, hE, hM⟩ := hv
  have hx := B.exec
  have hb := B.bytes
  have hr := B.returns
  have hts := atoms_spec (ws := ws_ yX4_likes cX4_likes 3 (some .int)) B.pre
  have hts : ∀ w ∈ lw_all, w.before _ s = true := fun w h => hts w (List.mem_cons_of_mem _ h)
  have hown : s.vm.findClass RX4 = some m0.cls := findClass_of_methodNamed B.named
  have hlocks := B.notSynchronized
  have hS : va_S A s.heap s.heap [] := va_S.rf
  have hl := lv_entry ([.ref mo, .int (nI e), .int (nI k)]) (n := 3) (Nat.le_of_ble_eq_true rfl)
  rw [lg_entry_eq]
  generalize (lg_sl ([.ref mo, .int (nI e), .int (nI k)]) ++ List.replicate (3 - (lg_sl ([.ref mo, .int (nI e), .int (nI k)])).length) Slot.unset).toArray = ls at hl ⊢
  have hl : lv_has ls 3 [(0, .ref mo), (1, .int (nI e)), (2, .int (nI k))] := hl
  refine lv_aload_n hx hb dX4_likes_0 rfl (lv_at hl 0 rfl) ?_
  refine xr_get hx hb hts in_X4 hown hE ((hM).1) rfl 4 (by decide) (hts _ q791) (fun _ h => h) rfl dX4_likes_1 ?_
  refine lv_iload_n hx hb dX4_likes_4 rfl (lv_at hl 1 rfl) ?_
  refine xr_aald hx hb hE 5 rfl rfl ((hM).2.2.1) (i := e) he (by omega) (v := .ref (tr e)) rfl dX4_likes_5 ?_
  refine lv_aload_n hx hb dX4_likes_6 rfl (lv_at hl 0 rfl) ?_
  refine xr_get hx hb hts in_X4 hown hE ((hM).1) rfl 2 (by decide) (hts _ q789) (fun _ h => h) rfl dX4_likes_7 ?_
  refine lv_iload_n hx hb dX4_likes_10 rfl (lv_at hl 2 rfl) ?_
  refine xr_iald hx hb hE ((hM).2.1) (i := k) hk (by omega) dX4_likes_11 ?_
  refine xr_iald hx hb hE (hM.2.2.2 e he) (i := (so k)) (hso k) (by omega) dX4_likes_12 ?_
  exact W.iret hx hb hr (fun t ht hW => ⟨rfl, ht⟩) (fun q h => by cases h) dX4_likes_13

set_option maxHeartbeats 4000000 in
set_option maxRecDepth 100000 in
theorem mt_run (l : Launch) (E : xG) (A : Nat → Prop) (mo aS aT aW aO : Nat) (tr : Nat → Nat) (th : Int32) (n : Nat) (so : Nat → Nat) (m : Nat) (ts : Nat → Nat → Nat) (sh : Int32) (e a z : Nat) (he : e < 5) (hz : z ≤ 40) (ha : a ≤ 40) (hso : ∀ k, so k < 5) : Met l yX4_run (ws_ yX4_run cX4_run 6 (some .int)) ({ frames := 2, cells := 0, slots := 0, locals := 80 } : Room) (xPre E A [.ref mo, .int (nI e), .int (nI a), .int (nI z)] (fun H => xM0 E mo aS aT aW aO tr th n so m ts sh H)) (xRo (.int (nI (rn (tk ts so e) a z)))) 0 0 (fun _ => False) := by
  refine Met.ofW (cc := cX4_run) (maxL := 6) (ret := (some .int)) (by decide) rfl ?_
  intro P0 e0 s m0 args below meth c0 s₁ B hml hv
  obtain ⟨rfl, hE, hM⟩ := hv
  have hx := B.exec
  have hb := B.bytes
  have hr := B.returns
  have hts := atoms_spec (ws := ws_ yX4_run cX4_run 6 (some .int)) B.pre
  have hts : ∀ w ∈ lw_all, w.before _ s = true := fun w h => hts w (List.mem_cons_of_mem _ h)
  have hown : s.vm.findClass RX4 = some m0.cls := findClass_of_methodNamed B.named
  have hlocks := B.notSynchronized
  have hS : va_S A s.heap s.heap [] := va_S.rf
  have hl := lv_entry ([.ref mo, .int (nI e), .int (nI a), .int (nI z)]) (n := 6) (Nat.le_of_ble_eq_true rfl)
  rw [lg_entry_eq]
  generalize (lg_sl ([.ref mo, .int (nI e), .int (nI a), .int (nI z)]) ++ List.replicate (6 - (lg_sl ([.ref mo, .int (nI e), .int (nI a), .int (nI z)])).length) Slot.unset).toArray = ls at hl ⊢
  have hl : lv_has ls 6 [(0, .ref mo), (1, .int (nI e)), (2, .int (nI a)), (3, .int (nI z))] := hl
  refine lv_iconst (v := (nI 0)) hx hb dX4_run_0 (by decide) ?_
  refine lv_istore (lv' := [(4, .int (nI 0)), (0, .ref mo), (1, .int (nI e)), (2, .int (nI a)), (3, .int (nI z))]) hx hb dX4_run_1 hl (by decide) rfl (fun ls hl => ?_)
  refine lv_iload_n hx hb dX4_run_3 rfl (lv_at hl 3 rfl) ?_
  refine lv_istore (lv' := [(5, .int (nI a)), (4, .int (nI 0)), (0, .ref mo), (1, .int (nI e)), (2, .int (nI a)), (3, .int (nI z))]) hx hb dX4_run_4 hl (by decide) rfl (fun ls hl => ?_)
  have lp : ∀ (nn : Nat) (k : Nat), (a ≤ k) → (k ≤ z ∨ k = a) → (z - k) < nn → ∀ (ls : Array Slot), lv_has ls 6 [(0, .ref mo), (1, .int (nI e)), (3, .int (nI z)), (4, .int (nI (rn (tk ts so e) a k))), (5, .int (nI k))] → W P0 l e0 (headSpec (ws_ yX4_run cX4_run 6 (some .int)) ({ frames := 2, cells := 0, slots := 0, locals := 80 } : Room)).room s m0 ([.ref mo, .int (nI e), .int (nI a), .int (nI z)] : List Value).toArray below meth c0 s.heap ([]) 0 0 (MQ below (xRo (.int (nI (rn (tk ts so e) a z)))) ([.ref mo, .int (nI e), .int (nI a), .int (nI z)] : List Value).toArray s 0 0 (fun _ => False)) (F0 m0 6 ls []) := by
    intro nn
    induction nn with
    | zero =>
      intro k hk1 hk2 hnn
      exact absurd hnn (Nat.not_lt_zero _)
    | succ nn ih =>
      intro k hk1 hk2 hnn ls hl
      refine lv_iload hx hb dX4_run_6 (lv_at hl 4 rfl) ?_
      refine lv_iload_n hx hb dX4_run_8 rfl (lv_at hl 2 rfl) ?_
      refine xr_cge (tgt := 30) hx hb dX4_run_9 (by decide) (by omega) (by omega) (fun c_1 => ?_) (fun c_1 => ?_)
      · refine lv_iload hx hb dX4_run_30 (lv_at hl 3 rfl) ?_
        refine xr_ti (x := (nI (rn (tk ts so e) a k))) (y := (nI (rn (tk ts so e) a z))) (by rw [show rn (tk ts so e) a k = rn (tk ts so e) a z from rn_end hk2 c_1]) ?_
        exact W.iret hx hb hr (fun t ht hW => ⟨rfl, ht⟩) (fun q h => by cases h) dX4_run_32
      · refine lv_iload hx hb dX4_run_12 (lv_at hl 3 rfl) ?_
        refine lv_aload_n hx hb dX4_run_14 rfl (lv_at hl 0 rfl) ?_
        refine lv_iload_n hx hb dX4_run_15 rfl (lv_at hl 1 rfl) ?_
        refine lv_iload hx hb dX4_run_16 (lv_at hl 4 rfl) ?_
        refine xr_ro (va_runV (As := [.int (nI e), .int (nI k)]) (rest := [.int (nI (rn (tk ts so e) a k))]) ⟨hx, hb, hml, hown, hts⟩ (mt_likes l E A mo aS aT aW aO tr th n so m ts sh e k he (by omega) hso) (cwV 2 hts (lw_V q876 q878 qs20 q44 q879) rfl rfl rfl (by decide +kernel) ⟨Nat.le_of_ble_eq_true rfl, Nat.le_of_ble_eq_true rfl⟩) ⟨xPre_blind, ((hM).1).recv hE rfl, fun U hU hW => xPre_at hE hS (fun _ h => h) hM hU hW⟩ rfl rfl hl.1 rfl (lv_room (Nat.le_of_ble_eq_true rfl)) dX4_run_18 ⟨(show 0 + 0 ≤ 0 by omega), (show 0 + 0 ≤ 0 by omega)⟩) ?_
        refine xr_iadd hx hb dX4_run_21 ?_
        refine xr_ti (x := (nI ((rn (tk ts so e) a k) + (tk ts so e k)))) (y := (nI (rn (tk ts so e) a (k + 1)))) (by rw [rn_s hk1]) ?_
        refine lv_istore (lv' := [(4, .int (nI (rn (tk ts so e) a (k + 1)))), (0, .ref mo), (1, .int (nI e)), (3, .int (nI z)), (5, .int (nI k))]) hx hb dX4_run_22 hl (by decide) rfl (fun ls hl => ?_)
        refine lv_iinc (v := (nI (k + 1))) (lv' := [(5, .int (nI (k + 1))), (4, .int (nI (rn (tk ts so e) a (k + 1)))), (0, .ref mo), (1, .int (nI e)), (3, .int (nI z))]) hx hb dX4_run_24 hl (k := 4) rfl (nI_add k 1) (by decide) rfl (fun ls hl => ?_)
        refine lv_goto (tgt := 6) hx hb dX4_run_27 (by decide) ?_
        exact ih (k + 1) (by omega) (by omega) (by omega) ls (lv_sub hl [2, 3, 4, 1, 0] rfl)
  exact lp (z - a + 1) a (Nat.le_refl _) (Or.inr rfl) (by omega) ls (by rw [rn_self]; exact lv_sub hl [2, 3, 5, 1, 0] rfl)

set_option maxHeartbeats 4000000 in
set_option maxRecDepth 100000 in
theorem mt_isIn_t (l : Launch) (E : xG) (A : Nat → Prop) (v lo hi : Int32) (h1 : lo ≤ v) (h2 : v ≤ hi) : Met l yX4_isIn (ws_ yX4_isIn cX4_isIn 3 (some .boolean)) ({ frames := 1, cells := 0, slots := 0, locals := 40 } : Room) (xPre E A [.int v, .int lo, .int hi] (fun H => True)) (xRo (.int (nI 1))) 0 0 (fun _ => False) := by
  refine Met.ofW (cc := cX4_isIn) (maxL := 3) (ret := (some .boolean)) (by decide) rfl ?_
  intro P0 e0 s m0 args below meth c0 s₁ B hml hv
  obtain ⟨rfl, hE, -⟩ := hv
  have hx := B.exec
  have hb := B.bytes
  have hr := B.returns
  have hts := atoms_spec (ws := ws_ yX4_isIn cX4_isIn 3 (some .boolean)) B.pre
  have hts : ∀ w ∈ lw_all, w.before _ s = true := fun w h => hts w (List.mem_cons_of_mem _ h)
  have hown : s.vm.findClass RX4 = some m0.cls := findClass_of_methodNamed B.named
  have hlocks := B.notSynchronized
  have hS : va_S A s.heap s.heap [] := va_S.rf
  have hl := lv_entry ([.int v, .int lo, .int hi]) (n := 3) (Nat.le_of_ble_eq_true rfl)
  rw [lg_entry_eq]
  generalize (lg_sl ([.int v, .int lo, .int hi]) ++ List.replicate (3 - (lg_sl ([.int v, .int lo, .int hi])).length) Slot.unset).toArray = ls at hl ⊢
  have hl : lv_has ls 3 [(0, .int v), (1, .int lo), (2, .int hi)] := hl
  refine lv_iload_n hx hb dX4_isIn_0 rfl (lv_at hl 0 rfl) ?_
  refine lv_iload_n hx hb dX4_isIn_1 rfl (lv_at hl 1 rfl) ?_
  refine lv_icmp_lt (tgt := 14) hx hb dX4_isIn_2 (by decide) (fun c => absurd c (Int32.not_lt.mpr h1)) (fun c => ?_)
  refine lv_iload_n hx hb dX4_isIn_5 rfl (lv_at hl 0 rfl) ?_
  refine lv_iload_n hx hb dX4_isIn_6 rfl (lv_at hl 2 rfl) ?_
  refine lv_icmp_gt (tgt := 14) hx hb dX4_isIn_7 (by decide) (fun c => absurd c (Int32.not_lt.mpr h2)) (fun c => ?_)
  refine lv_iconst (v := (nI 1)) hx hb dX4_isIn_10 (by decide) ?_
  refine lv_goto (tgt := 15) hx hb dX4_isIn_11 (by decide) ?_
  exact W.zret hx hb hr rfl (fun t ht hW => ⟨rfl, ht⟩) (fun q h => by cases h) dX4_isIn_15

set_option maxHeartbeats 4000000 in
set_option maxRecDepth 100000 in
theorem mt_isIn_f (l : Launch) (E : xG) (A : Nat → Prop) (v lo hi : Int32) (h : v < lo ∨ hi < v) : Met l yX4_isIn (ws_ yX4_isIn cX4_isIn 3 (some .boolean)) ({ frames := 1, cells := 0, slots := 0, locals := 40 } : Room) (xPre E A [.int v, .int lo, .int hi] (fun H => True)) (xRo (.int (nI 0))) 0 0 (fun _ => False) := by
  refine Met.ofW (cc := cX4_isIn) (maxL := 3) (ret := (some .boolean)) (by decide) rfl ?_
  intro P0 e0 s m0 args below meth c0 s₁ B hml hv
  obtain ⟨rfl, hE, -⟩ := hv
  have hx := B.exec
  have hb := B.bytes
  have hr := B.returns
  have hts := atoms_spec (ws := ws_ yX4_isIn cX4_isIn 3 (some .boolean)) B.pre
  have hts : ∀ w ∈ lw_all, w.before _ s = true := fun w h => hts w (List.mem_cons_of_mem _ h)
  have hown : s.vm.findClass RX4 = some m0.cls := findClass_of_methodNamed B.named
  have hlocks := B.notSynchronized
  have hS : va_S A s.heap s.heap [] := va_S.rf
  have hl := lv_entry ([.int v, .int lo, .int hi]) (n := 3) (Nat.le_of_ble_eq_true rfl)
  rw [lg_entry_eq]
  generalize (lg_sl ([.int v, .int lo, .int hi]) ++ List.replicate (3 - (lg_sl ([.int v, .int lo, .int hi])).length) Slot.unset).toArray = ls at hl ⊢
  have hl : lv_has ls 3 [(0, .int v), (1, .int lo), (2, .int hi)] := hl
  refine lv_iload_n hx hb dX4_isIn_0 rfl (lv_at hl 0 rfl) ?_
  refine lv_iload_n hx hb dX4_isIn_1 rfl (lv_at hl 1 rfl) ?_
  refine lv_icmp_lt (tgt := 14) hx hb dX4_isIn_2 (by decide) (fun c => ?_) (fun c => ?_)
  · refine lv_iconst (v := (nI 0)) hx hb dX4_isIn_14 (by decide) ?_
    exact W.zret hx hb hr rfl (fun t ht hW => ⟨rfl, ht⟩) (fun q h => by cases h) dX4_isIn_15
  · refine lv_iload_n hx hb dX4_isIn_5 rfl (lv_at hl 0 rfl) ?_
    refine lv_iload_n hx hb dX4_isIn_6 rfl (lv_at hl 2 rfl) ?_
    refine lv_icmp_gt (tgt := 14) hx hb dX4_isIn_7 (by decide) (fun c2 => ?_) (fun c2 => absurd h (fun q => q.elim c c2))
    refine lv_iconst (v := (nI 0)) hx hb dX4_isIn_14 (by decide) ?_
    exact W.zret hx hb hr rfl (fun t ht hW => ⟨rfl, ht⟩) (fun q h => by cases h) dX4_isIn_15

set_option maxHeartbeats 4000000 in
set_option maxRecDepth 100000 in
theorem mt_isEater_t (l : Launch) (E : xG) (A : Nat → Prop) (mo aS aT aW aO : Nat) (tr : Nat → Nat) (th : Int32) (n : Nat) (so : Nat → Nat) (m : Nat) (ts : Nat → Nat → Nat) (sh : Int32) (x : Int32) (hn : n ≤ 40) (hm : m ≤ 5) (h : vp_in x m) : Met l yX4_isEater (ws_ yX4_isEater cX4_isEater 2 (some .boolean)) ({ frames := 2, cells := 0, slots := 0, locals := 80 } : Room) (xPre E A [.ref mo, .int x] (fun H => xM0 E mo aS aT aW aO tr th n so m ts sh H)) (xRo (.int (nI 1))) 0 0 (fun _ => False) := by
  refine Met.ofW (cc := cX4_isEater) (maxL := 2) (ret := (some .boolean)) (by decide) rfl ?_
  intro P0 e0 s m0 args below meth c0 s₁ B hml hv
  obtain ⟨rfl, hE, hM⟩ := hv
  have hx := B.exec
  have hb := B.bytes
  have hr := B.returns
  have hts := atoms_spec (ws := ws_ yX4_isEater cX4_isEater 2 (some .boolean)) B.pre
  have hts : ∀ w ∈ lw_all, w.before _ s = true := fun w h => hts w (List.mem_cons_of_mem _ h)
  have hown : s.vm.findClass RX4 = some m0.cls := findClass_of_methodNamed B.named
  have hlocks := B.notSynchronized
  have hS : va_S A s.heap s.heap [] := va_S.rf
  have hl := lv_entry ([.ref mo, .int x]) (n := 2) (Nat.le_of_ble_eq_true rfl)
  rw [lg_entry_eq]
  generalize (lg_sl ([.ref mo, .int x]) ++ List.replicate (2 - (lg_sl ([.ref mo, .int x])).length) Slot.unset).toArray = ls at hl ⊢
  have hl : lv_has ls 2 [(0, .ref mo), (1, .int x)] := hl
  refine lv_iload_n hx hb dX4_isEater_0 rfl (lv_at hl 1 rfl) ?_
  refine lv_iconst (v := (nI 0)) hx hb dX4_isEater_1 (by decide) ?_
  refine lv_aload_n hx hb dX4_isEater_2 rfl (lv_at hl 0 rfl) ?_
  refine xr_get hx hb hts in_X4 hown hE ((hM).1) rfl 3 (by decide) (hts _ q790) (fun _ h => h) rfl dX4_isEater_3 ?_
  refine lv_iconst (v := (nI 1)) hx hb dX4_isEater_6 (by decide) ?_
  refine lv_isub hx hb dX4_isEater_7 ?_
  refine xr_ro (va_runS (As := [.int x, .int (nI 0), .int (nI m - nI 1)]) (rest := []) ⟨hx, hb, hml, hown, hts⟩ (mt_isIn_t l E A x (nI 0) (nI m - nI 1) (in_t h (by omega)).1 (in_t h (by omega)).2) (va_cwS 3 hts (lw_S q820 q821 q44 q822) rfl rfl rfl (by decide +kernel) ⟨Nat.le_of_ble_eq_true rfl, Nat.le_of_ble_eq_true rfl⟩) ⟨xPre_blind, fun U hU hW => xPre_at hE hS (fun _ h => h) trivial hU hW⟩ rfl rfl hl.1 rfl (lv_room (Nat.le_of_ble_eq_true rfl)) dX4_isEater_8 ⟨(show 0 + 0 ≤ 0 by omega), (show 0 + 0 ≤ 0 by omega)⟩) ?_
  exact W.zret hx hb hr rfl (fun t ht hW => ⟨rfl, ht⟩) (fun q h => by cases h) dX4_isEater_11

set_option maxHeartbeats 4000000 in
set_option maxRecDepth 100000 in
theorem mt_isEater_f (l : Launch) (E : xG) (A : Nat → Prop) (mo aS aT aW aO : Nat) (tr : Nat → Nat) (th : Int32) (n : Nat) (so : Nat → Nat) (m : Nat) (ts : Nat → Nat → Nat) (sh : Int32) (x : Int32) (hn : n ≤ 40) (hm : m ≤ 5) (h : ¬ vp_in x m) : Met l yX4_isEater (ws_ yX4_isEater cX4_isEater 2 (some .boolean)) ({ frames := 2, cells := 0, slots := 0, locals := 80 } : Room) (xPre E A [.ref mo, .int x] (fun H => xM0 E mo aS aT aW aO tr th n so m ts sh H)) (xRo (.int (nI 0))) 0 0 (fun _ => False) := by
  refine Met.ofW (cc := cX4_isEater) (maxL := 2) (ret := (some .boolean)) (by decide) rfl ?_
  intro P0 e0 s m0 args below meth c0 s₁ B hml hv
  obtain ⟨rfl, hE, hM⟩ := hv
  have hx := B.exec
  have hb := B.bytes
  have hr := B.returns
  have hts := atoms_spec (ws := ws_ yX4_isEater cX4_isEater 2 (some .boolean)) B.pre
  have hts : ∀ w ∈ lw_all, w.before _ s = true := fun w h => hts w (List.mem_cons_of_mem _ h)
  have hown : s.vm.findClass RX4 = some m0.cls := findClass_of_methodNamed B.named
  have hlocks := B.notSynchronized
  have hS : va_S A s.heap s.heap [] := va_S.rf
  have hl := lv_entry ([.ref mo, .int x]) (n := 2) (Nat.le_of_ble_eq_true rfl)
  rw [lg_entry_eq]
  generalize (lg_sl ([.ref mo, .int x]) ++ List.replicate (2 - (lg_sl ([.ref mo, .int x])).length) Slot.unset).toArray = ls at hl ⊢
  have hl : lv_has ls 2 [(0, .ref mo), (1, .int x)] := hl
  refine lv_iload_n hx hb dX4_isEater_0 rfl (lv_at hl 1 rfl) ?_
  refine lv_iconst (v := (nI 0)) hx hb dX4_isEater_1 (by decide) ?_
  refine lv_aload_n hx hb dX4_isEater_2 rfl (lv_at hl 0 rfl) ?_
  refine xr_get hx hb hts in_X4 hown hE ((hM).1) rfl 3 (by decide) (hts _ q790) (fun _ h => h) rfl dX4_isEater_3 ?_
  refine lv_iconst (v := (nI 1)) hx hb dX4_isEater_6 (by decide) ?_
  refine lv_isub hx hb dX4_isEater_7 ?_
  refine xr_ro (va_runS (As := [.int x, .int (nI 0), .int (nI m - nI 1)]) (rest := []) ⟨hx, hb, hml, hown, hts⟩ (mt_isIn_f l E A x (nI 0) (nI m - nI 1) (in_f h (by omega))) (va_cwS 3 hts (lw_S q820 q821 q44 q822) rfl rfl rfl (by decide +kernel) ⟨Nat.le_of_ble_eq_true rfl, Nat.le_of_ble_eq_true rfl⟩) ⟨xPre_blind, fun U hU hW => xPre_at hE hS (fun _ h => h) trivial hU hW⟩ rfl rfl hl.1 rfl (lv_room (Nat.le_of_ble_eq_true rfl)) dX4_isEater_8 ⟨(show 0 + 0 ≤ 0 by omega), (show 0 + 0 ≤ 0 by omega)⟩) ?_
  exact W.zret hx hb hr rfl (fun t ht hW => ⟨rfl, ht⟩) (fun q h => by cases h) dX4_isEater_11

set_option maxHeartbeats 4000000 in
set_option maxRecDepth 100000 in
theorem mt_isSlice_t (l : Launch) (E : xG) (A : Nat → Prop) (mo aS aT aW aO : Nat) (tr : Nat → Nat) (th : Int32) (n : Nat) (so : Nat → Nat) (m : Nat) (ts : Nat → Nat → Nat) (sh : Int32) (x : Int32) (hn : n ≤ 40) (hm : m ≤ 5) (h : vp_in x n) : Met l yX4_isSlice (ws_ yX4_isSlice cX4_isSlice 2 (some .boolean)) ({ frames := 2, cells := 0, slots := 0, locals := 80 } : Room) (xPre E A [.ref mo, .int x] (fun H => xM0 E mo aS aT aW aO tr th n so m ts sh H)) (xRo (.int (nI 1))) 0 0 (fun _ => False) := by
  refine Met.ofW (cc := cX4_isSlice) (maxL := 2) (ret := (some .boolean)) (by decide) rfl ?_
  intro P0 e0 s m0 args below meth c0 s₁ B hml hv
  obtain ⟨rfl, hE, hM⟩ := hv
  have hx := B.exec
  have hb := B.bytes
  have hr := B.returns
  have hts := atoms_spec (ws := ws_ yX4_isSlice cX4_isSlice 2 (some .boolean)) B.pre
  have hts : ∀ w ∈ lw_all, w.before _ s = true := fun w h => hts w (List.mem_cons_of_mem _ h)
  have hown : s.vm.findClass RX4 = some m0.cls := findClass_of_methodNamed B.named
  have hlocks := B.notSynchronized
  have hS : va_S A s.heap s.heap [] := va_S.rf
  have hl := lv_entry ([.ref mo, .int x]) (n := 2) (Nat.le_of_ble_eq_true rfl)
  rw [lg_entry_eq]
  generalize (lg_sl ([.ref mo, .int x]) ++ List.replicate (2 - (lg_sl ([.ref mo, .int x])).length) Slot.unset).toArray = ls at hl ⊢
  have hl : lv_has ls 2 [(0, .ref mo), (1, .int x)] := hl
  refine lv_iload_n hx hb dX4_isSlice_0 rfl (lv_at hl 1 rfl) ?_
  refine lv_iconst (v := (nI 0)) hx hb dX4_isSlice_1 (by decide) ?_
  refine lv_aload_n hx hb dX4_isSlice_2 rfl (lv_at hl 0 rfl) ?_
  refine xr_get hx hb hts in_X4 hown hE ((hM).1) rfl 1 (by decide) (hts _ q788) (fun _ h => h) rfl dX4_isSlice_3 ?_
  refine lv_iconst (v := (nI 1)) hx hb dX4_isSlice_6 (by decide) ?_
  refine lv_isub hx hb dX4_isSlice_7 ?_
  refine xr_ro (va_runS (As := [.int x, .int (nI 0), .int (nI n - nI 1)]) (rest := []) ⟨hx, hb, hml, hown, hts⟩ (mt_isIn_t l E A x (nI 0) (nI n - nI 1) (in_t h (by omega)).1 (in_t h (by omega)).2) (va_cwS 3 hts (lw_S q820 q821 q44 q822) rfl rfl rfl (by decide +kernel) ⟨Nat.le_of_ble_eq_true rfl, Nat.le_of_ble_eq_true rfl⟩) ⟨xPre_blind, fun U hU hW => xPre_at hE hS (fun _ h => h) trivial hU hW⟩ rfl rfl hl.1 rfl (lv_room (Nat.le_of_ble_eq_true rfl)) dX4_isSlice_8 ⟨(show 0 + 0 ≤ 0 by omega), (show 0 + 0 ≤ 0 by omega)⟩) ?_
  exact W.zret hx hb hr rfl (fun t ht hW => ⟨rfl, ht⟩) (fun q h => by cases h) dX4_isSlice_11

set_option maxHeartbeats 4000000 in
set_option maxRecDepth 100000 in
theorem mt_isSlice_f (l : Launch) (E : xG) (A : Nat → Prop) (mo aS aT aW aO : Nat) (tr : Nat → Nat) (th : Int32) (n : Nat) (so : Nat → Nat) (m : Nat) (ts : Nat → Nat → Nat) (sh : Int32) (x : Int32) (hn : n ≤ 40) (hm : m ≤ 5) (h : ¬ vp_in x n) : Met l yX4_isSlice (ws_ yX4_isSlice cX4_isSlice 2 (some .boolean)) ({ frames := 2, cells := 0, slots := 0, locals := 80 } : Room) (xPre E A [.ref mo, .int x] (fun H => xM0 E mo aS aT aW aO tr th n so m ts sh H)) (xRo (.int (nI 0))) 0 0 (fun _ => False) := by
  refine Met.ofW (cc := cX4_isSlice) (maxL := 2) (ret := (some .boolean)) (by decide) rfl ?_
  intro P0 e0 s m0 args below meth c0 s₁ B hml hv
  obtain ⟨rfl, hE, hM⟩ := hv
  have hx := B.exec
  have hb := B.bytes
  have hr := B.returns
  have hts := atoms_spec (ws := ws_ yX4_isSlice cX4_isSlice 2 (some .boolean)) B.pre
  have hts : ∀ w ∈ lw_all, w.before _ s = true := fun w h => hts w (List.mem_cons_of_mem _ h)
  have hown : s.vm.findClass RX4 = some m0.cls := findClass_of_methodNamed B.named
  have hlocks := B.notSynchronized
  have hS : va_S A s.heap s.heap [] := va_S.rf
  have hl := lv_entry ([.ref mo, .int x]) (n := 2) (Nat.le_of_ble_eq_true rfl)
  rw [lg_entry_eq]
  generalize (lg_sl ([.ref mo, .int x]) ++ List.replicate (2 - (lg_sl ([.ref mo, .int x])).length) Slot.unset).toArray = ls at hl ⊢
  have hl : lv_has ls 2 [(0, .ref mo), (1, .int x)] := hl
  refine lv_iload_n hx hb dX4_isSlice_0 rfl (lv_at hl 1 rfl) ?_
  refine lv_iconst (v := (nI 0)) hx hb dX4_isSlice_1 (by decide) ?_
  refine lv_aload_n hx hb dX4_isSlice_2 rfl (lv_at hl 0 rfl) ?_
  refine xr_get hx hb hts in_X4 hown hE ((hM).1) rfl 1 (by decide) (hts _ q788) (fun _ h => h) rfl dX4_isSlice_3 ?_
  refine lv_iconst (v := (nI 1)) hx hb dX4_isSlice_6 (by decide) ?_
  refine lv_isub hx hb dX4_isSlice_7 ?_
  refine xr_ro (va_runS (As := [.int x, .int (nI 0), .int (nI n - nI 1)]) (rest := []) ⟨hx, hb, hml, hown, hts⟩ (mt_isIn_f l E A x (nI 0) (nI n - nI 1) (in_f h (by omega))) (va_cwS 3 hts (lw_S q820 q821 q44 q822) rfl rfl rfl (by decide +kernel) ⟨Nat.le_of_ble_eq_true rfl, Nat.le_of_ble_eq_true rfl⟩) ⟨xPre_blind, fun U hU hW => xPre_at hE hS (fun _ h => h) trivial hU hW⟩ rfl rfl hl.1 rfl (lv_room (Nat.le_of_ble_eq_true rfl)) dX4_isSlice_8 ⟨(show 0 + 0 ≤ 0 by omega), (show 0 + 0 ≤ 0 by omega)⟩) ?_
  exact W.zret hx hb hr rfl (fun t ht hW => ⟨rfl, ht⟩) (fun q h => by cases h) dX4_isSlice_11

set_option maxHeartbeats 4000000 in
set_option maxRecDepth 100000 in
theorem mt_isSort_t (l : Launch) (E : xG) (A : Nat → Prop) (x : Int32) (h : vp_in x 5) : Met l yX4_isSort (ws_ yX4_isSort cX4_isSort 1 (some .boolean)) ({ frames := 2, cells := 0, slots := 0, locals := 80 } : Room) (xPre E A [.int x] (fun H => True)) (xRo (.int (nI 1))) 0 0 (fun _ => False) := by
  refine Met.ofW (cc := cX4_isSort) (maxL := 1) (ret := (some .boolean)) (by decide) rfl ?_
  intro P0 e0 s m0 args below meth c0 s₁ B hml hv
  obtain ⟨rfl, hE, -⟩ := hv
  have hx := B.exec
  have hb := B.bytes
  have hr := B.returns
  have hts := atoms_spec (ws := ws_ yX4_isSort cX4_isSort 1 (some .boolean)) B.pre
  have hts : ∀ w ∈ lw_all, w.before _ s = true := fun w h => hts w (List.mem_cons_of_mem _ h)
  have hown : s.vm.findClass RX4 = some m0.cls := findClass_of_methodNamed B.named
  have hlocks := B.notSynchronized
  have hS : va_S A s.heap s.heap [] := va_S.rf
  have hl := lv_entry ([.int x]) (n := 1) (Nat.le_of_ble_eq_true rfl)
  rw [lg_entry_eq]
  generalize (lg_sl ([.int x]) ++ List.replicate (1 - (lg_sl ([.int x])).length) Slot.unset).toArray = ls at hl ⊢
  have hl : lv_has ls 1 [(0, .int x)] := hl
  refine lv_iload_n hx hb dX4_isSort_0 rfl (lv_at hl 0 rfl) ?_
  refine lv_iconst (v := (nI 0)) hx hb dX4_isSort_1 (by decide) ?_
  refine lv_iconst (v := (nI 4)) hx hb dX4_isSort_2 (by decide) ?_
  refine xr_ro (va_runS (As := [.int x, .int (nI 0), .int (nI 4)]) (rest := []) ⟨hx, hb, hml, hown, hts⟩ (mt_isIn_t l E A x (nI 0) (nI 4) (in_t h (by omega)).1 (in_t h (by omega)).2) (va_cwS 3 hts (lw_S q820 q821 q44 q822) rfl rfl rfl (by decide +kernel) ⟨Nat.le_of_ble_eq_true rfl, Nat.le_of_ble_eq_true rfl⟩) ⟨xPre_blind, fun U hU hW => xPre_at hE hS (fun _ h => h) trivial hU hW⟩ rfl rfl hl.1 rfl (lv_room (Nat.le_of_ble_eq_true rfl)) dX4_isSort_3 ⟨(show 0 + 0 ≤ 0 by omega), (show 0 + 0 ≤ 0 by omega)⟩) ?_
  exact W.zret hx hb hr rfl (fun t ht hW => ⟨rfl, ht⟩) (fun q h => by cases h) dX4_isSort_6

set_option maxHeartbeats 4000000 in
set_option maxRecDepth 100000 in
theorem mt_isSort_f (l : Launch) (E : xG) (A : Nat → Prop) (x : Int32) (h : ¬ vp_in x 5) : Met l yX4_isSort (ws_ yX4_isSort cX4_isSort 1 (some .boolean)) ({ frames := 2, cells := 0, slots := 0, locals := 80 } : Room) (xPre E A [.int x] (fun H => True)) (xRo (.int (nI 0))) 0 0 (fun _ => False) := by
  refine Met.ofW (cc := cX4_isSort) (maxL := 1) (ret := (some .boolean)) (by decide) rfl ?_
  intro P0 e0 s m0 args below meth c0 s₁ B hml hv
  obtain ⟨rfl, hE, -⟩ := hv
  have hx := B.exec
  have hb := B.bytes
  have hr := B.returns
  have hts := atoms_spec (ws := ws_ yX4_isSort cX4_isSort 1 (some .boolean)) B.pre
  have hts : ∀ w ∈ lw_all, w.before _ s = true := fun w h => hts w (List.mem_cons_of_mem _ h)
  have hown : s.vm.findClass RX4 = some m0.cls := findClass_of_methodNamed B.named
  have hlocks := B.notSynchronized
  have hS : va_S A s.heap s.heap [] := va_S.rf
  have hl := lv_entry ([.int x]) (n := 1) (Nat.le_of_ble_eq_true rfl)
  rw [lg_entry_eq]
  generalize (lg_sl ([.int x]) ++ List.replicate (1 - (lg_sl ([.int x])).length) Slot.unset).toArray = ls at hl ⊢
  have hl : lv_has ls 1 [(0, .int x)] := hl
  refine lv_iload_n hx hb dX4_isSort_0 rfl (lv_at hl 0 rfl) ?_
  refine lv_iconst (v := (nI 0)) hx hb dX4_isSort_1 (by decide) ?_
  refine lv_iconst (v := (nI 4)) hx hb dX4_isSort_2 (by decide) ?_
  refine xr_ro (va_runS (As := [.int x, .int (nI 0), .int (nI 4)]) (rest := []) ⟨hx, hb, hml, hown, hts⟩ (mt_isIn_f l E A x (nI 0) (nI 4) (in_f h (by omega))) (va_cwS 3 hts (lw_S q820 q821 q44 q822) rfl rfl rfl (by decide +kernel) ⟨Nat.le_of_ble_eq_true rfl, Nat.le_of_ble_eq_true rfl⟩) ⟨xPre_blind, fun U hU hW => xPre_at hE hS (fun _ h => h) trivial hU hW⟩ rfl rfl hl.1 rfl (lv_room (Nat.le_of_ble_eq_true rfl)) dX4_isSort_3 ⟨(show 0 + 0 ≤ 0 by omega), (show 0 + 0 ≤ 0 by omega)⟩) ?_
  exact W.zret hx hb hr rfl (fun t ht hW => ⟨rfl, ht⟩) (fun q h => by cases h) dX4_isSort_6

set_option maxHeartbeats 4000000 in
set_option maxRecDepth 100000 in
theorem mt_many (l : Launch) (E : xG) (A : Nat → Prop) (row : Nat) (rw : Nat → Int32) (n : Nat) (v : Int32) (hn : n ≤ 40) : Met l yX4_many (ws_ yX4_many cX4_many 5 (some .int)) ({ frames := 1, cells := 0, slots := 0, locals := 40 } : Room) (xPre E A [.ref row, .int (nI n), .int v] (fun H => xI E row 40 rw H)) (xRo (.int (nI (mn rw v n)))) 0 0 (fun _ => False) := by
  refine Met.ofW (cc := cX4_many) (maxL := 5) (ret := (some .int)) (by decide) rfl ?_
  intro P0 e0 s m0 args below meth c0 s₁ B hml hv
  obtain ⟨rfl, hE, hR⟩ := hv
  have hx := B.exec
  have hb := B.bytes
  have hr := B.returns
  have hts := atoms_spec (ws := ws_ yX4_many cX4_many 5 (some .int)) B.pre
  have hts : ∀ w ∈ lw_all, w.before _ s = true := fun w h => hts w (List.mem_cons_of_mem _ h)
  have hown : s.vm.findClass RX4 = some m0.cls := findClass_of_methodNamed B.named
  have hlocks := B.notSynchronized
  have hS : va_S A s.heap s.heap [] := va_S.rf
  have hl := lv_entry ([.ref row, .int (nI n), .int v]) (n := 5) (Nat.le_of_ble_eq_true rfl)
  rw [lg_entry_eq]
  generalize (lg_sl ([.ref row, .int (nI n), .int v]) ++ List.replicate (5 - (lg_sl ([.ref row, .int (nI n), .int v])).length) Slot.unset).toArray = ls at hl ⊢
  have hl : lv_has ls 5 [(0, .ref row), (1, .int (nI n)), (2, .int v)] := hl
  refine lv_iconst (v := (nI 0)) hx hb dX4_many_0 (by decide) ?_
  refine lv_istore_n (lv' := [(3, .int (nI 0)), (0, .ref row), (1, .int (nI n)), (2, .int v)]) hx hb dX4_many_1 rfl hl (by decide) rfl (fun ls hl => ?_)
  refine lv_iconst (v := (nI 0)) hx hb dX4_many_2 (by decide) ?_
  refine lv_istore (lv' := [(4, .int (nI 0)), (3, .int (nI 0)), (0, .ref row), (1, .int (nI n)), (2, .int v)]) hx hb dX4_many_3 hl (by decide) rfl (fun ls hl => ?_)
  have lp : ∀ (nn : Nat) (k : Nat), (k ≤ n) → (n - k) < nn → ∀ (ls : Array Slot), lv_has ls 5 [(0, .ref row), (1, .int (nI n)), (2, .int v), (3, .int (nI (mn rw v k))), (4, .int (nI k))] → W P0 l e0 (headSpec (ws_ yX4_many cX4_many 5 (some .int)) ({ frames := 1, cells := 0, slots := 0, locals := 40 } : Room)).room s m0 ([.ref row, .int (nI n), .int v] : List Value).toArray below meth c0 s.heap ([]) 0 0 (MQ below (xRo (.int (nI (mn rw v n)))) ([.ref row, .int (nI n), .int v] : List Value).toArray s 0 0 (fun _ => False)) (F0 m0 5 ls []) := by
    intro nn
    induction nn with
    | zero =>
      intro k hk1 hnn
      exact absurd hnn (Nat.not_lt_zero _)
    | succ nn ih =>
      intro k hk1 hnn ls hl
      refine lv_iload hx hb dX4_many_5 (lv_at hl 4 rfl) ?_
      refine lv_iload_n hx hb dX4_many_7 rfl (lv_at hl 1 rfl) ?_
      refine xr_cge (tgt := 33) hx hb dX4_many_8 (by decide) (by omega) (by omega) (fun c_1 => ?_) (fun c_1 => ?_)
      · obtain rfl : k = n := by omega
        refine lv_iload_n hx hb dX4_many_33 rfl (lv_at hl 3 rfl) ?_
        exact W.iret hx hb hr (fun t ht hW => ⟨rfl, ht⟩) (fun q h => by cases h) dX4_many_34
      · refine lv_iload_n hx hb dX4_many_11 rfl (lv_at hl 3 rfl) ?_
        refine lv_aload_n hx hb dX4_many_12 rfl (lv_at hl 0 rfl) ?_
        refine lv_iload hx hb dX4_many_13 (lv_at hl 4 rfl) ?_
        refine xr_iald hx hb hE hR (i := k) (by omega) (by omega) dX4_many_15 ?_
        refine lv_iload_n hx hb dX4_many_16 rfl (lv_at hl 2 rfl) ?_
        have jn_3 : W P0 l e0 (headSpec (ws_ yX4_many cX4_many 5 (some .int)) ({ frames := 1, cells := 0, slots := 0, locals := 40 } : Room)).room s m0 ([.ref row, .int (nI n), .int v] : List Value).toArray below meth c0 s.heap ([]) 0 0 (MQ below (xRo (.int (nI (mn rw v n)))) ([.ref row, .int (nI n), .int v] : List Value).toArray s 0 0 (fun _ => False)) (F0 m0 25 ls [.int (nI (if rw k = v then 1 else 0)), .int (nI (mn rw v k))]) := by
          refine xr_iadd hx hb dX4_many_25 ?_
          refine xr_ti (x := (nI ((mn rw v k) + (if rw k = v then 1 else 0)))) (y := (nI (mn rw v (k + 1)))) (by unfold mn; rw [sm_s]) ?_
          refine lv_istore_n (lv' := [(3, .int (nI (mn rw v (k + 1)))), (0, .ref row), (1, .int (nI n)), (2, .int v), (4, .int (nI k))]) hx hb dX4_many_26 rfl hl (by decide) rfl (fun ls hl => ?_)
          refine lv_iinc (v := (nI (k + 1))) (lv' := [(4, .int (nI (k + 1))), (3, .int (nI (mn rw v (k + 1)))), (0, .ref row), (1, .int (nI n)), (2, .int v)]) hx hb dX4_many_27 hl (k := 4) rfl (nI_add k 1) (by decide) rfl (fun ls hl => ?_)
          refine lv_goto (tgt := 5) hx hb dX4_many_30 (by decide) ?_
          exact ih (k + 1) (by omega) (by omega) ls (lv_sub hl [2, 3, 4, 1, 0] rfl)
        refine lv_icmp_ne (tgt := 24) hx hb dX4_many_17 (by decide) (fun c_2 => ?_) (fun c_2 => ?_)
        · refine lv_iconst (v := (nI 0)) hx hb dX4_many_24 (by decide) ?_
          rw [if_neg (c_2)] at jn_3
          exact jn_3
        · refine lv_iconst (v := (nI 1)) hx hb dX4_many_20 (by decide) ?_
          refine lv_goto (tgt := 25) hx hb dX4_many_21 (by decide) ?_
          rw [if_pos (c_2)] at jn_3
          exact jn_3
  exact lp (n + 1) 0 (by omega) (by omega) ls (by rw [mn_0]; exact lv_sub hl [2, 3, 4, 1, 0] rfl)

set_option maxHeartbeats 4000000 in
set_option maxRecDepth 100000 in
theorem mt_worth (l : Launch) (E : xG) (A : Nat → Prop) (mo aS aT aW aO : Nat) (tr : Nat → Nat) (th : Int32) (n : Nat) (so : Nat → Nat) (m : Nat) (ts : Nat → Nat → Nat) (sh : Int32) (row : Nat) (rw : Nat → Int32) (e : Nat) (v : Int32) (he : e < 5) (hn : n ≤ 40) (hso : ∀ k, so k < 5) : Met l yX4_worth (ws_ yX4_worth cX4_worth 6 (some .int)) ({ frames := 2, cells := 0, slots := 0, locals := 80 } : Room) (xPre E A [.ref mo, .ref row, .int (nI e), .int v] (fun H => xM0 E mo aS aT aW aO tr th n so m ts sh H ∧ xI E row 40 rw H)) (xRo (.int (nI (wo (tk ts so e) rw v n)))) 0 0 (fun _ => False) := by
  refine Met.ofW (cc := cX4_worth) (maxL := 6) (ret := (some .int)) (by decide) rfl ?_
  intro P0 e0 s m0 args below meth c0 s₁ B hml hv
  obtain ⟨rfl, hE, hM, hR⟩ := hv
  have hx := B.exec
  have hb := B.bytes
  have hr := B.returns
  have hts := atoms_spec (ws := ws_ yX4_worth cX4_worth 6 (some .int)) B.pre
  have hts : ∀ w ∈ lw_all, w.before _ s = true := fun w h => hts w (List.mem_cons_of_mem _ h)
  have hown : s.vm.findClass RX4 = some m0.cls := findClass_of_methodNamed B.named
  have hlocks := B.notSynchronized
  have hS : va_S A s.heap s.heap [] := va_S.rf
  have hl := lv_entry ([.ref mo, .ref row, .int (nI e), .int v]) (n := 6) (Nat.le_of_ble_eq_true rfl)
  rw [lg_entry_eq]
  generalize (lg_sl ([.ref mo, .ref row, .int (nI e), .int v]) ++ List.replicate (6 - (lg_sl ([.ref mo, .ref row, .int (nI e), .int v])).length) Slot.unset).toArray = ls at hl ⊢
  have hl : lv_has ls 6 [(0, .ref mo), (1, .ref row), (2, .int (nI e)), (3, .int v)] := hl
  refine lv_iconst (v := (nI 0)) hx hb dX4_worth_0 (by decide) ?_
  refine lv_istore (lv' := [(4, .int (nI 0)), (0, .ref mo), (1, .ref row), (2, .int (nI e)), (3, .int v)]) hx hb dX4_worth_1 hl (by decide) rfl (fun ls hl => ?_)
  refine lv_iconst (v := (nI 0)) hx hb dX4_worth_3 (by decide) ?_
  refine lv_istore (lv' := [(5, .int (nI 0)), (4, .int (nI 0)), (0, .ref mo), (1, .ref row), (2, .int (nI e)), (3, .int v)]) hx hb dX4_worth_4 hl (by decide) rfl (fun ls hl => ?_)
  have lp : ∀ (nn : Nat) (k : Nat), (k ≤ n) → (n - k) < nn → ∀ (ls : Array Slot), lv_has ls 6 [(0, .ref mo), (1, .ref row), (2, .int (nI e)), (3, .int v), (4, .int (nI (wo (tk ts so e) rw v k))), (5, .int (nI k))] → W P0 l e0 (headSpec (ws_ yX4_worth cX4_worth 6 (some .int)) ({ frames := 2, cells := 0, slots := 0, locals := 80 } : Room)).room s m0 ([.ref mo, .ref row, .int (nI e), .int v] : List Value).toArray below meth c0 s.heap ([]) 0 0 (MQ below (xRo (.int (nI (wo (tk ts so e) rw v n)))) ([.ref mo, .ref row, .int (nI e), .int v] : List Value).toArray s 0 0 (fun _ => False)) (F0 m0 6 ls []) := by
    intro nn
    induction nn with
    | zero =>
      intro k hk1 hnn
      exact absurd hnn (Nat.not_lt_zero _)
    | succ nn ih =>
      intro k hk1 hnn ls hl
      refine lv_iload hx hb dX4_worth_6 (lv_at hl 5 rfl) ?_
      refine lv_aload_n hx hb dX4_worth_8 rfl (lv_at hl 0 rfl) ?_
      refine xr_get hx hb hts in_X4 hown hE ((hM).1) rfl 1 (by decide) (hts _ q788) (fun _ h => h) rfl dX4_worth_9 ?_
      refine xr_cge (tgt := 45) hx hb dX4_worth_12 (by decide) (by omega) (by omega) (fun c_1 => ?_) (fun c_1 => ?_)
      · obtain rfl : k = n := by omega
        refine lv_iload hx hb dX4_worth_45 (lv_at hl 4 rfl) ?_
        exact W.iret hx hb hr (fun t ht hW => ⟨rfl, ht⟩) (fun q h => by cases h) dX4_worth_47
      · refine lv_iload hx hb dX4_worth_15 (lv_at hl 4 rfl) ?_
        refine lv_aload_n hx hb dX4_worth_17 rfl (lv_at hl 1 rfl) ?_
        refine lv_iload hx hb dX4_worth_18 (lv_at hl 5 rfl) ?_
        refine xr_iald hx hb hE hR (i := k) (by omega) (by omega) dX4_worth_20 ?_
        refine lv_iload_n hx hb dX4_worth_21 rfl (lv_at hl 3 rfl) ?_
        refine lv_icmp_ne (tgt := 35) hx hb dX4_worth_22 (by decide) (fun c2 => ?_) (fun c2 => ?_)
        · refine lv_iconst (v := (nI 0)) hx hb dX4_worth_35 (by decide) ?_
          refine xr_iadd hx hb dX4_worth_36 ?_
          refine xr_ti (x := (nI ((wo (tk ts so e) rw v k) + 0))) (y := (nI (wo (tk ts so e) rw v (k + 1)))) (by rw [wo_f c2, Nat.add_zero]) ?_
          refine lv_istore (lv' := [(4, .int (nI (wo (tk ts so e) rw v (k + 1)))), (0, .ref mo), (1, .ref row), (2, .int (nI e)), (3, .int v), (5, .int (nI k))]) hx hb dX4_worth_37 hl (by decide) rfl (fun ls hl => ?_)
          refine lv_iinc (v := (nI (k + 1))) (lv' := [(5, .int (nI (k + 1))), (4, .int (nI (wo (tk ts so e) rw v (k + 1)))), (0, .ref mo), (1, .ref row), (2, .int (nI e)), (3, .int v)]) hx hb dX4_worth_39 hl (k := 5) rfl (nI_add k 1) (by decide) rfl (fun ls hl => ?_)
          refine lv_goto (tgt := 6) hx hb dX4_worth_42 (by decide) ?_
          exact ih (k + 1) (by omega) (by omega) ls (lv_sub hl [2, 3, 4, 5, 1, 0] rfl)
        · refine lv_aload_n hx hb dX4_worth_25 rfl (lv_at hl 0 rfl) ?_
          refine lv_iload_n hx hb dX4_worth_26 rfl (lv_at hl 2 rfl) ?_
          refine lv_iload hx hb dX4_worth_27 (lv_at hl 5 rfl) ?_
          refine xr_ro (va_runV (As := [.int (nI e), .int (nI k)]) (rest := [.int (nI (wo (tk ts so e) rw v k))]) ⟨hx, hb, hml, hown, hts⟩ (mt_likes l E A mo aS aT aW aO tr th n so m ts sh e k he (by omega) hso) (cwV 2 hts (lw_V q876 q878 qs20 q44 q879) rfl rfl rfl (by decide +kernel) ⟨Nat.le_of_ble_eq_true rfl, Nat.le_of_ble_eq_true rfl⟩) ⟨xPre_blind, ((hM).1).recv hE rfl, fun U hU hW => xPre_at hE hS (fun _ h => h) hM hU hW⟩ rfl rfl hl.1 rfl (lv_room (Nat.le_of_ble_eq_true rfl)) dX4_worth_29 ⟨(show 0 + 0 ≤ 0 by omega), (show 0 + 0 ≤ 0 by omega)⟩) ?_
          refine lv_goto (tgt := 36) hx hb dX4_worth_32 (by decide) ?_
          refine xr_iadd hx hb dX4_worth_36 ?_
          refine xr_ti (x := (nI ((wo (tk ts so e) rw v k) + (tk ts so e k)))) (y := (nI (wo (tk ts so e) rw v (k + 1)))) (by rw [wo_t c2]) ?_
          refine lv_istore (lv' := [(4, .int (nI (wo (tk ts so e) rw v (k + 1)))), (0, .ref mo), (1, .ref row), (2, .int (nI e)), (3, .int v), (5, .int (nI k))]) hx hb dX4_worth_37 hl (by decide) rfl (fun ls hl => ?_)
          refine lv_iinc (v := (nI (k + 1))) (lv' := [(5, .int (nI (k + 1))), (4, .int (nI (wo (tk ts so e) rw v (k + 1)))), (0, .ref mo), (1, .ref row), (2, .int (nI e)), (3, .int v)]) hx hb dX4_worth_39 hl (k := 5) rfl (nI_add k 1) (by decide) rfl (fun ls hl => ?_)
          refine lv_goto (tgt := 6) hx hb dX4_worth_42 (by decide) ?_
          exact ih (k + 1) (by omega) (by omega) ls (lv_sub hl [2, 3, 4, 5, 1, 0] rfl)
  exact lp (n + 1) 0 (by omega) (by omega) ls (by rw [wo_0]; exact lv_sub hl [2, 3, 4, 5, 1, 0] rfl)

set_option maxHeartbeats 4000000 in
set_option maxRecDepth 100000 in
theorem mt_envy (l : Launch) (E : xG) (A : Nat → Prop) (mo aS aT aW aO : Nat) (tr : Nat → Nat) (th : Int32) (n : Nat) (so : Nat → Nat) (m : Nat) (ts : Nat → Nat → Nat) (sh : Int32) (row : Nat) (rw : Nat → Int32) (e o : Nat) (he : e < 5) (hn : n ≤ 40) (hso : ∀ k, so k < 5) (hts9 : ∀ e k, ts e k ≤ 9) : Met l yX4_envy (ws_ yX4_envy cX4_envy 4 (some .int)) ({ frames := 3, cells := 0, slots := 0, locals := 120 } : Room) (xPre E A [.ref mo, .ref row, .int (nI e), .int (nI o)] (fun H => xM0 E mo aS aT aW aO tr th n so m ts sh H ∧ xI E row 40 rw H)) (xRo (.int (nI (ey (tk ts so) rw n e o)))) 0 0 (fun _ => False) := by
  refine Met.ofW (cc := cX4_envy) (maxL := 4) (ret := (some .int)) (by decide) rfl ?_
  intro P0 e0 s m0 args below meth c0 s₁ B hml hv
  obtain ⟨rfl, hE, hM, hR⟩ := hv
  have hx := B.exec
  have hb := B.bytes
  have hr := B.returns
  have hts := atoms_spec (ws := ws_ yX4_envy cX4_envy 4 (some .int)) B.pre
  have hts : ∀ w ∈ lw_all, w.before _ s = true := fun w h => hts w (List.mem_cons_of_mem _ h)
  have hown : s.vm.findClass RX4 = some m0.cls := findClass_of_methodNamed B.named
  have hlocks := B.notSynchronized
  have hS : va_S A s.heap s.heap [] := va_S.rf
  have hl := lv_entry ([.ref mo, .ref row, .int (nI e), .int (nI o)]) (n := 4) (Nat.le_of_ble_eq_true rfl)
  rw [lg_entry_eq]
  generalize (lg_sl ([.ref mo, .ref row, .int (nI e), .int (nI o)]) ++ List.replicate (4 - (lg_sl ([.ref mo, .ref row, .int (nI e), .int (nI o)])).length) Slot.unset).toArray = ls at hl ⊢
  have hl : lv_has ls 4 [(0, .ref mo), (1, .ref row), (2, .int (nI e)), (3, .int (nI o))] := hl
  refine lv_iconst (v := (nI 0)) hx hb dX4_envy_0 (by decide) ?_
  refine lv_aload_n hx hb dX4_envy_1 rfl (lv_at hl 0 rfl) ?_
  refine lv_aload_n hx hb dX4_envy_2 rfl (lv_at hl 1 rfl) ?_
  refine lv_iload_n hx hb dX4_envy_3 rfl (lv_at hl 2 rfl) ?_
  refine lv_iload_n hx hb dX4_envy_4 rfl (lv_at hl 3 rfl) ?_
  refine xr_ro (va_runV (As := [.ref row, .int (nI e), .int (nI o)]) (rest := [.int (nI 0)]) ⟨hx, hb, hml, hown, hts⟩ (mt_worth l E A mo aS aT aW aO tr th n so m ts sh row rw e (nI o) he hn hso) (cwV 3 hts (lw_V q908 q910 qs25 q44 q911) rfl rfl rfl (by decide +kernel) ⟨Nat.le_of_ble_eq_true rfl, Nat.le_of_ble_eq_true rfl⟩) ⟨xPre_blind, ((hM).1).recv hE rfl, fun U hU hW => xPre_at hE hS (fun _ h => h) (⟨hM, hR⟩) hU hW⟩ rfl rfl hl.1 rfl (lv_room (Nat.le_of_ble_eq_true rfl)) dX4_envy_5 ⟨(show 0 + 0 ≤ 0 by omega), (show 0 + 0 ≤ 0 by omega)⟩) ?_
  refine lv_aload_n hx hb dX4_envy_8 rfl (lv_at hl 0 rfl) ?_
  refine lv_aload_n hx hb dX4_envy_9 rfl (lv_at hl 1 rfl) ?_
  refine lv_iload_n hx hb dX4_envy_10 rfl (lv_at hl 2 rfl) ?_
  refine lv_iload_n hx hb dX4_envy_11 rfl (lv_at hl 2 rfl) ?_
  refine xr_ro (va_runV (As := [.ref row, .int (nI e), .int (nI e)]) (rest := [.int (nI (wo (tk ts so e) rw (nI o) n)), .int (nI 0)]) ⟨hx, hb, hml, hown, hts⟩ (mt_worth l E A mo aS aT aW aO tr th n so m ts sh row rw e (nI e) he hn hso) (cwV 3 hts (lw_V q908 q910 qs25 q44 q911) rfl rfl rfl (by decide +kernel) ⟨Nat.le_of_ble_eq_true rfl, Nat.le_of_ble_eq_true rfl⟩) ⟨xPre_blind, ((hM).1).recv hE rfl, fun U hU hW => xPre_at hE hS (fun _ h => h) (⟨hM, hR⟩) hU hW⟩ rfl rfl hl.1 rfl (lv_room (Nat.le_of_ble_eq_true rfl)) dX4_envy_12 ⟨(show 0 + 0 ≤ 0 by omega), (show 0 + 0 ≤ 0 by omega)⟩) ?_
  refine lv_isub hx hb dX4_envy_15 ?_
  have b1 := wo_9 (f := tk ts so e) (fun k => hts9 e (so k)) (ow := rw) (v := nI o) hn
  have b2 := wo_9 (f := tk ts so e) (fun k => hts9 e (so k)) (ow := rw) (v := nI e) hn
  refine va_mmax hx hb (hml.trans hl.1.symm) hown (hts _ q891) (hts _ q150) (hts _ q41) (hts _ q151) (Nat.le_of_ble_eq_true rfl) (Nat.le_of_ble_eq_true rfl) (show 0 ≤ 0 by omega) (show 0 ≤ 0 by omega) dX4_envy_16 ?_
  refine xr_ti (x := (if nI 0 < (nI (wo (tk ts so e) rw (nI o) n) - nI (wo (tk ts so e) rw (nI e) n)) then (nI (wo (tk ts so e) rw (nI o) n) - nI (wo (tk ts so e) rw (nI e) n)) else nI 0)) (y := (nI (ey (tk ts so) rw n e o))) (max_sub (by omega) (by omega)) ?_
  exact W.iret hx hb hr (fun t ht hW => ⟨rfl, ht⟩) (fun q h => by cases h) dX4_envy_19

set_option maxHeartbeats 4000000 in
set_option maxRecDepth 100000 in
theorem mt_allEnvy (l : Launch) (E : xG) (A : Nat → Prop) (mo aS aT aW aO : Nat) (tr : Nat → Nat) (th : Int32) (n : Nat) (so : Nat → Nat) (m : Nat) (ts : Nat → Nat → Nat) (sh : Int32) (row : Nat) (rw : Nat → Int32) (hn : n ≤ 40) (hm : m ≤ 5) (hso : ∀ k, so k < 5) (hts9 : ∀ e k, ts e k ≤ 9) : Met l yX4_allEnvy (ws_ yX4_allEnvy cX4_allEnvy 5 (some .int)) ({ frames := 4, cells := 0, slots := 0, locals := 160 } : Room) (xPre E A [.ref mo, .ref row] (fun H => xM0 E mo aS aT aW aO tr th n so m ts sh H ∧ xI E row 40 rw H)) (xRo (.int (nI (ae (tk ts so) rw n m)))) 0 0 (fun _ => False) := by
  refine Met.ofW (cc := cX4_allEnvy) (maxL := 5) (ret := (some .int)) (by decide) rfl ?_
  intro P0 e0 s m0 args below meth c0 s₁ B hml hv
  obtain ⟨rfl, hE, hM, hR⟩ := hv
  have hx := B.exec
  have hb := B.bytes
  have hr := B.returns
  have hts := atoms_spec (ws := ws_ yX4_allEnvy cX4_allEnvy 5 (some .int)) B.pre
  have hts : ∀ w ∈ lw_all, w.before _ s = true := fun w h => hts w (List.mem_cons_of_mem _ h)
  have hown : s.vm.findClass RX4 = some m0.cls := findClass_of_methodNamed B.named
  have hlocks := B.notSynchronized
  have hS : va_S A s.heap s.heap [] := va_S.rf
  have hl := lv_entry ([.ref mo, .ref row]) (n := 5) (Nat.le_of_ble_eq_true rfl)
  rw [lg_entry_eq]
  generalize (lg_sl ([.ref mo, .ref row]) ++ List.replicate (5 - (lg_sl ([.ref mo, .ref row])).length) Slot.unset).toArray = ls at hl ⊢
  have hl : lv_has ls 5 [(0, .ref mo), (1, .ref row)] := hl
  refine lv_iconst (v := (nI 0)) hx hb dX4_allEnvy_0 (by decide) ?_
  refine lv_istore_n (lv' := [(2, .int (nI 0)), (0, .ref mo), (1, .ref row)]) hx hb dX4_allEnvy_1 rfl hl (by decide) rfl (fun ls hl => ?_)
  refine lv_iconst (v := (nI 0)) hx hb dX4_allEnvy_2 (by decide) ?_
  refine lv_istore_n (lv' := [(3, .int (nI 0)), (2, .int (nI 0)), (0, .ref mo), (1, .ref row)]) hx hb dX4_allEnvy_3 rfl hl (by decide) rfl (fun ls hl => ?_)
  have lp : ∀ (nn : Nat) (e : Nat), (e ≤ m) → (m - e) < nn → ∀ (ls : Array Slot), lv_has ls 5 [(0, .ref mo), (1, .ref row), (2, .int (nI (sm (fun e => sm (fun o => ey (tk ts so) rw n e o) m) e))), (3, .int (nI e))] → W P0 l e0 (headSpec (ws_ yX4_allEnvy cX4_allEnvy 5 (some .int)) ({ frames := 4, cells := 0, slots := 0, locals := 160 } : Room)).room s m0 ([.ref mo, .ref row] : List Value).toArray below meth c0 s.heap ([]) 0 0 (MQ below (xRo (.int (nI (ae (tk ts so) rw n m)))) ([.ref mo, .ref row] : List Value).toArray s 0 0 (fun _ => False)) (F0 m0 4 ls []) := by
    intro nn
    induction nn with
    | zero =>
      intro e he1 hnn
      exact absurd hnn (Nat.not_lt_zero _)
    | succ nn ih =>
      intro e he1 hnn ls hl
      refine lv_iload_n hx hb dX4_allEnvy_4 rfl (lv_at hl 3 rfl) ?_
      refine lv_aload_n hx hb dX4_allEnvy_5 rfl (lv_at hl 0 rfl) ?_
      refine xr_get hx hb hts in_X4 hown hE ((hM).1) rfl 3 (by decide) (hts _ q790) (fun _ h => h) rfl dX4_allEnvy_6 ?_
      refine xr_cge (tgt := 47) hx hb dX4_allEnvy_9 (by decide) (by omega) (by omega) (fun c_1 => ?_) (fun c_1 => ?_)
      · obtain rfl : m = e := by omega
        refine lv_iload_n hx hb dX4_allEnvy_47 rfl (lv_at hl 2 rfl) ?_
        exact W.iret hx hb hr (fun t ht hW => ⟨rfl, ht⟩) (fun q h => by cases h) dX4_allEnvy_48
      · refine lv_iconst (v := (nI 0)) hx hb dX4_allEnvy_12 (by decide) ?_
        refine lv_istore (lv' := [(4, .int (nI 0)), (0, .ref mo), (1, .ref row), (2, .int (nI (sm (fun e => sm (fun o => ey (tk ts so) rw n e o) m) e))), (3, .int (nI e))]) hx hb dX4_allEnvy_13 hl (by decide) rfl (fun ls hl => ?_)
        have ihA := ih
        have lpB : ∀ (nn : Nat) (o : Nat), (o ≤ m) → (m - o) < nn → ∀ (ls : Array Slot), lv_has ls 5 [(0, .ref mo), (1, .ref row), (2, .int (nI (sm (fun e => sm (fun o => ey (tk ts so) rw n e o) m) e + sm (fun o => ey (tk ts so) rw n e o) o))), (3, .int (nI e)), (4, .int (nI o))] → W P0 l e0 (headSpec (ws_ yX4_allEnvy cX4_allEnvy 5 (some .int)) ({ frames := 4, cells := 0, slots := 0, locals := 160 } : Room)).room s m0 ([.ref mo, .ref row] : List Value).toArray below meth c0 s.heap ([]) 0 0 (MQ below (xRo (.int (nI (ae (tk ts so) rw n m)))) ([.ref mo, .ref row] : List Value).toArray s 0 0 (fun _ => False)) (F0 m0 15 ls []) := by
          intro nn
          induction nn with
          | zero =>
            intro o ho1 hnn
            exact absurd hnn (Nat.not_lt_zero _)
          | succ nn ih =>
            intro o ho1 hnn ls hl
            refine lv_iload hx hb dX4_allEnvy_15 (lv_at hl 4 rfl) ?_
            refine lv_aload_n hx hb dX4_allEnvy_17 rfl (lv_at hl 0 rfl) ?_
            refine xr_get hx hb hts in_X4 hown hE ((hM).1) rfl 3 (by decide) (hts _ q790) (fun _ h => h) rfl dX4_allEnvy_18 ?_
            refine xr_cge (tgt := 41) hx hb dX4_allEnvy_21 (by decide) (by omega) (by omega) (fun c_2 => ?_) (fun c_2 => ?_)
            · obtain rfl : m = o := by omega
              refine lv_iinc (v := (nI (e + 1))) (lv' := [(3, .int (nI (e + 1))), (0, .ref mo), (1, .ref row), (2, .int (nI (sm (fun e => sm (fun m => ey (tk ts so) rw n e m) m) e + sm (fun m => ey (tk ts so) rw n e m) m))), (4, .int (nI m))]) hx hb dX4_allEnvy_41 hl (k := 3) rfl (nI_add e 1) (by decide) rfl (fun ls hl => ?_)
              refine lv_goto (tgt := 4) hx hb dX4_allEnvy_44 (by decide) ?_
              exact ihA (e + 1) (by omega) (by omega) ls (by rw [sm_s]; exact lv_sub hl [1, 2, 3, 0] rfl)
            · refine lv_iload_n hx hb dX4_allEnvy_24 rfl (lv_at hl 2 rfl) ?_
              refine lv_aload_n hx hb dX4_allEnvy_25 rfl (lv_at hl 0 rfl) ?_
              refine lv_aload_n hx hb dX4_allEnvy_26 rfl (lv_at hl 1 rfl) ?_
              refine lv_iload_n hx hb dX4_allEnvy_27 rfl (lv_at hl 3 rfl) ?_
              refine lv_iload hx hb dX4_allEnvy_28 (lv_at hl 4 rfl) ?_
              refine xr_ro (va_runV (As := [.ref row, .int (nI e), .int (nI o)]) (rest := [.int (nI (sm (fun e => sm (fun o => ey (tk ts so) rw n e o) m) e + sm (fun o => ey (tk ts so) rw n e o) o))]) ⟨hx, hb, hml, hown, hts⟩ (mt_envy l E A mo aS aT aW aO tr th n so m ts sh row rw e o (by omega) hn hso hts9) (cwV 3 hts (lw_V q936 q938 qs28 q44 q939) rfl rfl rfl (by decide +kernel) ⟨Nat.le_of_ble_eq_true rfl, Nat.le_of_ble_eq_true rfl⟩) ⟨xPre_blind, ((hM).1).recv hE rfl, fun U hU hW => xPre_at hE hS (fun _ h => h) (⟨hM, hR⟩) hU hW⟩ rfl rfl hl.1 rfl (lv_room (Nat.le_of_ble_eq_true rfl)) dX4_allEnvy_30 ⟨(show 0 + 0 ≤ 0 by omega), (show 0 + 0 ≤ 0 by omega)⟩) ?_
              refine xr_iadd hx hb dX4_allEnvy_33 ?_
              refine xr_ti (x := (nI ((sm (fun e => sm (fun o => ey (tk ts so) rw n e o) m) e + sm (fun o => ey (tk ts so) rw n e o) o) + (ey (tk ts so) rw n e o)))) (y := (nI (sm (fun e => sm (fun o => ey (tk ts so) rw n e o) m) e + sm (fun o => ey (tk ts so) rw n e o) (o + 1)))) (by rw [sm_s, Nat.add_assoc]) ?_
              refine lv_istore_n (lv' := [(2, .int (nI (sm (fun e => sm (fun o => ey (tk ts so) rw n e o) m) e + sm (fun o => ey (tk ts so) rw n e o) (o + 1)))), (0, .ref mo), (1, .ref row), (3, .int (nI e)), (4, .int (nI o))]) hx hb dX4_allEnvy_34 rfl hl (by decide) rfl (fun ls hl => ?_)
              refine lv_iinc (v := (nI (o + 1))) (lv' := [(4, .int (nI (o + 1))), (2, .int (nI (sm (fun e => sm (fun o => ey (tk ts so) rw n e o) m) e + sm (fun o => ey (tk ts so) rw n e o) (o + 1)))), (0, .ref mo), (1, .ref row), (3, .int (nI e))]) hx hb dX4_allEnvy_35 hl (k := 4) rfl (nI_add o 1) (by decide) rfl (fun ls hl => ?_)
              refine lv_goto (tgt := 15) hx hb dX4_allEnvy_38 (by decide) ?_
              exact ih (o + 1) (by omega) (by omega) ls (lv_sub hl [2, 3, 1, 4, 0] rfl)
        exact lpB (m + 1) 0 (by omega) (by omega) ls (by rw [sm_0, Nat.add_zero]; exact lv_sub hl [1, 2, 3, 4, 0] rfl)
  exact lp (m + 1) 0 (by omega) (by omega) ls (by rw [sm_0]; exact lv_sub hl [2, 3, 1, 0] rfl)
