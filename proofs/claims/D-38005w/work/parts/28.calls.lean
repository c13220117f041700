/-! a method's contract, out of a run -/
abbrev MI : Type := MethodName × ByteArray × Nat × Option FieldType × List (Nat × Nat × Nat × Nat)
def mi_ws (q : MI) : List Jvm.Cond := match q.2.2.2.2 with
  | [] => ws_ q.1 q.2.1 q.2.2.1 q.2.2.2.1
  | hh => wsW_ q.1 q.2.1 q.2.2.1 q.2.2.2.1 hh
def cx_room (d mc ms : Nat) : Room := { frames := 8 * d + 16, cells := mc, slots := ms, locals := 1000 * d + 5000 }
def ex_nm (x : Nat) : String := if x = 1 then "java/lang/IllegalArgumentException" else if x = 2 then "java/lang/IllegalStateException" else "java/lang/IndexOutOfBoundsException"
def cx_Q (D : va_G) (E : Env0) (r : Rs × Hp) : Array Value → State → Outcome → State → Prop := fun _ st o t => (∃ v, r.1 = .ok v ∧ o = .returned v) ∧ rl_H D t E.1 r.2 t.heap ∧ va_F (rl_A E.1) st t
def cx_X (D : va_G) (E : Env0) (r : Rs × Hp) : String → State → State → Prop := fun nm st t => (∃ x, r.1 = .error x ∧ nm = ex_nm x) ∧ rl_H D t E.1 r.2 t.heap ∧ va_F (rl_A E.1) st t
def cx_P (D : va_G) (E : Env0) (h : Hp) (as : List Value) : Array Value → State → Prop := va_Pc as (fun U => kv_ok D E U U.heap ∧ rl_H D U E.1 h U.heap ∧ E.1 ≤ U.heap.size)
def cx_M (l : Launch) (D : va_G) (E : Env0) (q : MI) (d : Nat) (as : List Value) (h : Hp) (r : Rs × Hp) : Prop :=
  vx_Met l q.1 (mi_ws q) (cx_room d (hp_top r.2 - hp_top h) (hp_use r.2 - hp_use h)) (cx_P D E h as) (cx_Q D E r) (cx_X D E r) (hp_top r.2 - hp_top h) (hp_use r.2 - hp_use h) (rl_A E.1)
theorem kv_move {D : va_G} {E : Env0} {s U : State} {H0 H : Heap} (h : kv_ok D E s H0) (hW : s.WarmedH U.vm) (hk : ∀ q : Nat, q < H0.size → ¬ rl_A E.1 q → H[q]? = H0[q]?) : kv_ok D E U H := by
  obtain ⟨h1, h2, h3, h4, h5, h6, h7, h8, h9, h10, h11⟩ := h
  have hA := hW.alike
  refine ⟨fun ci q hq => u_Kn_moved hA (h1 ci q hq), ?_, fun w hw hk => nw_warm hk hW (h3 w hw hk), fun i q hq => ((h4 i q hq).kept hk).moved hA, ?_, fun q hq => (h6 q hq).moved hA, ⟨h7.1.moved hA, h7.2.1.moved hA, h7.2.2.moved hA⟩, ⟨h8.1.moved (by decide) hA, h8.2.1.moved (by decide) hA, h8.2.2.moved (by decide) hA⟩, ⟨(h9.1.kept hk).moved hA, (h9.2.kept hk).moved hA⟩, ⟨ml_moved hA h10.1, ml_moved hA h10.2⟩, lam_moved hW h11⟩
  · obtain ⟨cf, kf, fi, f, hi, hs, hst⟩ := h2
    obtain ⟨kf', hi', -⟩ := State.fieldFound?_setVm (s := s) hA hi
    exact ⟨cf, kf', fi, f, by simpa only [State.fieldFound?, State.vm_setVm] using hi', hs, hst⟩
  · obtain ⟨mi, e1, hM⟩ := h5
    exact ⟨mi, e1, hM.moved hA⟩
theorem cx_blind {D : va_G} {E : Env0} {h : Hp} {as : List Value} : FrameBlind (cx_P D E h as) := by
  intro a U g mk ⟨h1, h2, h3, h4⟩
  have hA : U.vm.Alike (U.calling g mk a).vm := Vm.Alike.refl U.vm
  have hW : U.WarmedH (U.calling g mk a).vm := State.WarmedH.refl U
  exact ⟨h1, kv_move h2 hW (fun _ _ _ => rfl), rl_H_moved hA h3, h4⟩
section SXG
variable {p : Program} {l : Launch} {e : Env} {R : Room} {s : State} {m : MethodId} {args : Array Value} {below : List Frame} {meth : Method} {c : Code} {H : Heap} {locs : List Loc} {cells slots : Nat} {Q : State → Prop}
variable {cc : ByteArray} {pc : Nat} {ls : Array Slot} {rest st0 : List Value} {D : va_G} {E : Env0} {h : Hp} {r : Rs × Hp} {mc ms : Nat} {a : Array Value}
theorem cx_pre (hK : kv_ok D E s s.heap) (hr : rl_H D s E.1 h H) (hS : va_S (rl_A E.1) s.heap H locs) (hB : E.1 ≤ s.heap.size) (as : List Value) : ∀ U : State, U.heap = H → s.WarmedH U.vm → cx_P D E h as as.toArray U := by
  intro U hU hW
  subst hU
  exact ⟨rfl, kv_move hK hW hS.2.1, rl_H_moved hW.alike hr, Nat.le_trans hB hS.1⟩
/-- behind a call -/
theorem sx_call (hr : vx_Run p l e R s m args below meth c H locs cells slots mc ms (F0 m pc ls st0) rest (cx_Q D E r a) (cx_X D E r) (rl_A E.1)) (hS : va_S (rl_A E.1) s.heap H locs)
    (ko : ∀ v, r.1 = .ok v → ∀ (H1 : Heap) (locs1 : List Loc), rl_H D s E.1 r.2 H1 → va_S (rl_A E.1) s.heap H1 locs1 → W p l e R s m args below meth c H1 locs1 (cells + mc) (slots + ms) Q (F0 m (pc + 3) ls (v.toList ++ rest)))
    (kx : ∀ x, r.1 = .error x → ∀ (q : Nat) (ce : Cell) (H1 : Heap) (locs1 : List Loc), H1[q]? = some ce → ce.vm = .none → s.vm.findClass (ex_nm x) = some ce.cls → rl_H D s E.1 r.2 H1 → va_S (rl_A E.1) s.heap H1 locs1 → vx_W p l e R s m args below meth c H1 locs1 (cells + mc) (slots + ms) Q (F0 m pc ls rest) q) :
    W p l e R s m args below meth c H locs cells slots Q (F0 m pc ls st0) := by
  intro T hT X
  have key : ∀ {T' t st₀ : State} {L : List Loc}, st₀.heap = H → Stand p l e R s m args below meth c T' (locs ++ L) (cells + mc) (slots + ms) → (∀ q ∈ L, rl_A E.1 q.base) → T'.heap = t.heap → T'.vm = t.vm → rl_H D t E.1 r.2 t.heap → va_F (rl_A E.1) st₀ t →
      rl_H D s E.1 r.2 T'.heap ∧ va_S (rl_A E.1) s.heap T'.heap (locs ++ L) := by
    intro T' t st₀ L h0 X' hL e1 e2 g1 g2
    have hA : t.vm.Alike s.vm := by rw [← e2]; exact X'.warmed.alike.symm
    refine ⟨by rw [e1]; exact rl_H_moved hA g1, ?_, fun q z1 z2 => ?_, fun q hq => ?_⟩
    · rw [e1]; exact Nat.le_trans hS.1 (by rw [← h0]; exact g2.1)
    · rw [e1, g2.2 q (by rw [h0]; exact Nat.lt_of_lt_of_le z1 hS.1) z2, h0]
      exact hS.2.1 q z1 z2
    · rcases List.mem_append.mp hq with z | z
      · exact hS.2.2 q z
      · exact hL q z
  rcases hr T hT X with ⟨v, st₀, t, T', L, h0, X', hL, e1, e2, ⟨⟨v', hv, ho⟩, g1, g2⟩, st⟩ | ⟨q, st₀, t, T', L, En, ce, h0, X', hL, e1, e2, ⟨⟨x, hx, hn⟩, g1, g2⟩, hce, hcv, hcl, st⟩
  · cases ho
    obtain ⟨w1, w2⟩ := key h0 X' hL e1 e2 g1 g2
    obtain ⟨t2, a1, b1⟩ := ko v hv T'.heap (locs ++ L) w1 w2 T' rfl X'
    exact ⟨t2, st t2 a1, b1⟩
  · obtain ⟨w1, w2⟩ := key h0 X' hL e1 e2 g1 g2
    subst hn
    obtain ⟨t2, a1, b1⟩ := kx x hx q ce T'.heap (locs ++ L) (by rw [e1]; exact hce) hcv hcl w1 w2 T' rfl X'
    exact ⟨t2, st.trans a1, b1⟩
theorem sx_call5 (hr : vx_Run5 p l e R s m args below meth c H locs cells slots mc ms (F0 m pc ls st0) rest (cx_Q D E r a) (cx_X D E r) (rl_A E.1)) (hS : va_S (rl_A E.1) s.heap H locs)
    (ko : ∀ v, r.1 = .ok v → ∀ (H1 : Heap) (locs1 : List Loc), rl_H D s E.1 r.2 H1 → va_S (rl_A E.1) s.heap H1 locs1 → W p l e R s m args below meth c H1 locs1 (cells + mc) (slots + ms) Q (F0 m (pc + 5) ls (v.toList ++ rest)))
    (kx : ∀ x, r.1 = .error x → ∀ (q : Nat) (ce : Cell) (H1 : Heap) (locs1 : List Loc), H1[q]? = some ce → ce.vm = .none → s.vm.findClass (ex_nm x) = some ce.cls → rl_H D s E.1 r.2 H1 → va_S (rl_A E.1) s.heap H1 locs1 → vx_W p l e R s m args below meth c H1 locs1 (cells + mc) (slots + ms) Q (F0 m pc ls rest) q) :
    W p l e R s m args below meth c H locs cells slots Q (F0 m pc ls st0) := by
  intro T hT X
  have key : ∀ {T' t st₀ : State} {L : List Loc}, st₀.heap = H → Stand p l e R s m args below meth c T' (locs ++ L) (cells + mc) (slots + ms) → (∀ q ∈ L, rl_A E.1 q.base) → T'.heap = t.heap → T'.vm = t.vm → rl_H D t E.1 r.2 t.heap → va_F (rl_A E.1) st₀ t →
      rl_H D s E.1 r.2 T'.heap ∧ va_S (rl_A E.1) s.heap T'.heap (locs ++ L) := by
    intro T' t st₀ L h0 X' hL e1 e2 g1 g2
    have hA : t.vm.Alike s.vm := by rw [← e2]; exact X'.warmed.alike.symm
    refine ⟨by rw [e1]; exact rl_H_moved hA g1, ?_, fun q z1 z2 => ?_, fun q hq => ?_⟩
    · rw [e1]; exact Nat.le_trans hS.1 (by rw [← h0]; exact g2.1)
    · rw [e1, g2.2 q (by rw [h0]; exact Nat.lt_of_lt_of_le z1 hS.1) z2, h0]
      exact hS.2.1 q z1 z2
    · rcases List.mem_append.mp hq with z | z
      · exact hS.2.2 q z
      · exact hL q z
  rcases hr T hT X with ⟨v, st₀, t, T', L, h0, X', hL, e1, e2, ⟨⟨v', hv, ho⟩, g1, g2⟩, st⟩ | ⟨q, st₀, t, T', L, En, ce, h0, X', hL, e1, e2, ⟨⟨x, hx, hn⟩, g1, g2⟩, hce, hcv, hcl, st⟩
  · cases ho
    obtain ⟨w1, w2⟩ := key h0 X' hL e1 e2 g1 g2
    obtain ⟨t2, a1, b1⟩ := ko v hv T'.heap (locs ++ L) w1 w2 T' rfl X'
    exact ⟨t2, st t2 a1, b1⟩
  · obtain ⟨w1, w2⟩ := key h0 X' hL e1 e2 g1 g2
    subst hn
    obtain ⟨t2, a1, b1⟩ := kx x hx q ce T'.heap (locs ++ L) (by rw [e1]; exact hce) hcv hcl w1 w2 T' rfl X'
    exact ⟨t2, st.trans a1, b1⟩
end SXG
