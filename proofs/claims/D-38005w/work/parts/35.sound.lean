/-! SOUNDNESS: what rn_run says, the machine does -/
def ek_all (M : Nat → MI) (I : Nat → Nat → Option Ent) (hdl : Nat → Nat → Nat → Option (Option (Nat × Nat))) : Prop :=
  (∀ mi pc e, I mi pc = some e → ek_ok M mi pc e) ∧ (∀ mi pc x, hdl mi pc x = some none → (M mi).2.2.2.2 = []) ∧ ∀ mi pc x k, hdl mi pc x = some (some k) → ek_hd (M mi).1.cls (M mi).2.2.1 (M mi).2.1 (M mi).2.2.2.2 pc x k
theorem cap_split {st : List Value} {n : Nat} (h : n ≤ st.length) : (rn_cap st n).reverse ++ st.drop n = st ∧ (rn_cap st n).length = n := by
  unfold rn_cap
  refine ⟨by rw [List.reverse_reverse, List.take_append_drop], by rw [List.length_reverse, List.length_take]; omega⟩
theorem drop_le {st r : List Value} {n : Nat} {v : Value} (h : st.drop n = v :: r) : n ≤ st.length := by
  have : (st.drop n).length = r.length + 1 := by rw [h]; rfl
  rw [List.length_drop] at this
  omega
theorem opc13 {i : Instr} {ops : List Nat} (h : rn_opc i ops = 13) : ∃ ix, i = .new ix := by
  unfold rn_opc at h
  split at h <;> first
    | exact ⟨_, rfl⟩
    | (cases h; done)
theorem step_call {E : Env0} {e : Ent} {pc : Nat} {lo : Lo} {st : List Value} {h : Hp} {z : Nat × List Value × List Value} (hst : rn_step E fdT e pc lo st h = some (.inr (.inl z))) : rn_cl h e.1 e.2.2 st = some z := by
  unfold rn_step at hst
  split at hst
  · obtain ⟨v, hv, e0⟩ := Option.map_eq_some_iff.mp hst; cases e0
  · split at hst
    · obtain ⟨v, hv, e0⟩ := Option.map_eq_some_iff.mp hst; cases e0
    · cases hst
  · split at hst
    · obtain ⟨v, hv, e0⟩ := Option.map_eq_some_iff.mp hst; cases e0
    · cases hst
  · obtain ⟨v, hv, e0⟩ := Option.map_eq_some_iff.mp hst; cases e0
  · split at hst
    · split at hst
      · next v hg =>
        cases ht : Nat.beq (rn_tag v) _ with
        | false => rw [ht] at hst; cases hst
        | true => rw [ht] at hst; cases hst
      · cases hst
    · cases hst
  · split at hst
    · next v rr hi =>
      cases ht : Nat.beq (rn_tag v) _ with
      | false => rw [ht] at hst; cases hst
      | true => rw [ht] at hst; cases hst
    · cases hst
  · split at hst
    · split at hst
      · cases hst
      · cases hst
    · cases hst
  · obtain ⟨v, hv, e0⟩ := Option.map_eq_some_iff.mp hst; cases e0
  · obtain ⟨v, hv, e0⟩ := Option.map_eq_some_iff.mp hst; cases e0
  · obtain ⟨v, hv, e0⟩ := Option.map_eq_some_iff.mp hst; cases e0
  · obtain ⟨v, hv, e0⟩ := Option.map_eq_some_iff.mp hst; cases e0
  · obtain ⟨v, hv, e0⟩ := Option.map_eq_some_iff.mp hst
    cases e0
    exact hv
  · obtain ⟨v, hv, e0⟩ := Option.map_eq_some_iff.mp hst; cases e0
  · split at hst
    · cases hk : decide ((st.map fun v => v.category).sum ≤ 8) with
      | false => rw [hk] at hst; cases hst
      | true => rw [hk] at hst; cases hst
    · cases hst
  · cases hst
/-- the call itself, by its sort -/
theorem call_run {l : Launch} {D : va_G} {E : Env0} {M : Nat → MI} {mi pc : Nat} {st : List Value} {h : Hp} {e : Ent} {z : Nat × List Value × List Value} (hek : ek_ok M mi pc e) (hcl : rn_cl h e.1 e.2.2 st = some z) :
    mi_ok (M z.1) ∧ (e.2.1 = 3 ∨ e.2.1 = 5) ∧ ∀ {c0 : Rs × Hp} {d : Nat} (_ : cx_M l D E (M z.1) d z.2.1 h c0)
      {p : Program} {en : Env} {s : State} {m : MethodId} {args : Array Value} {below : List Frame} {meth : Method} {c : Code} {H : Heap} {locs : List Loc} {cells slots mc ms : Nat} {ls : Array Slot} (_ : fx D E (M mi) p s m args meth c) (_ : rl_H D s E.1 h H) (_ : va_S (rl_A E.1) s.heap H locs) (_ : ls.size = (M mi).2.2.1)
      (_ : cells + (hp_top c0.2 - hp_top h) ≤ mc ∧ slots + (hp_use c0.2 - hp_use h) ≤ ms),
      e.2.1 = 3 ∧ vx_Run p l en (cx_room (d + 1) mc ms) s m args below meth c H locs cells slots (hp_top c0.2 - hp_top h) (hp_use c0.2 - hp_use h) (F0 m pc ls st) z.2.2 (cx_Q D E c0 z.2.1.toArray) (cx_X D E c0) (rl_A E.1) ∨
      e.2.1 = 5 ∧ vx_Run5 p l en (cx_room (d + 1) mc ms) s m args below meth c H locs cells slots (hp_top c0.2 - hp_top h) (hp_use c0.2 - hp_use h) (F0 m pc ls st) z.2.2 (cx_Q D E c0 z.2.1.toArray) (cx_X D E c0) (rl_A E.1) := by
  obtain ⟨e1, e2, e3, e4, e5⟩ := hek
  obtain ⟨i, len, ops⟩ := e
  dsimp only at e1 e2 e3 e4 e5 hcl ⊢
  unfold rn_cl at hcl
  split at hcl
  · next ix n mj =>
    have hlen : len = 3 := by rcases e2 with z | ⟨_, _, _, _, z⟩; exact z; cases z
    subst hlen
    cases hk : (Nat.ble n st.length && decide (((st.drop n).map fun v => v.category).sum ≤ 8)) with
    | false => rw [hk] at hcl; cases hcl
    | true =>
      rw [hk] at hcl
      cases hcl
      simp only [Bool.and_eq_true, decide_eq_true_eq] at hk
      obtain ⟨g1, g2⟩ := cap_split (Nat.le_of_ble_eq_true hk.1)
      have e3 : ek_cs (M mi).1.cls ix n (M mj) := e3
      refine ⟨e3.1, Or.inl rfl, ?_⟩
      intro c0 d hM p en s m args below meth c H locs cells slots mc ms ls F hr hS hsz hf
      obtain ⟨f1, f2, f3, f4, f5, f6, f7, f8, f9, fK, fB⟩ := F
      refine Or.inl ⟨rfl, ?_⟩
      have := sx_cs (ls := ls) (rest := st.drop n) (below := below) (meth := meth) (e := en) f1 f2 f3 f6 f7 fK hr hS fB hsz e3 hM g2 hk.2 e1 hf
      rw [g1] at this
      exact this
  · next ix n mj =>
    have hlen : len = 3 := by rcases e2 with z | ⟨_, _, _, _, z⟩; exact z; cases z
    subst hlen
    split at hcl
    · next a r hdr =>
      cases hk : decide ((r.map fun v => v.category).sum ≤ 8) with
      | false => rw [hk] at hcl; cases hcl
      | true =>
        rw [hk] at hcl
        cases hcl
        rw [decide_eq_true_eq] at hk
        obtain ⟨g1, g2⟩ := cap_split (drop_le hdr)
        rw [hdr] at g1
        have e3 : ek_ci (M mi).1.cls ix n (M mj) := e3
        refine ⟨e3.1, Or.inl rfl, ?_⟩
        intro c0 d hM p en s m args below meth c H locs cells slots mc ms ls F hr hS hsz hf
        obtain ⟨f1, f2, f3, f4, f5, f6, f7, f8, f9, fK, fB⟩ := F
        refine Or.inl ⟨rfl, ?_⟩
        have := sx_ci (ls := ls) (rest := r) (below := below) (meth := meth) (e := en) f1 f2 f3 f6 f7 fK hr hS fB hsz e3 hM g2 hk e1 hf
        rw [g1] at this
        exact this
    · cases hcl
  · next ix n p0 ps =>
    have hlen : len = 3 := by rcases e2 with z | ⟨_, _, _, _, z⟩; exact z; cases z
    subst hlen
    split at hcl
    · next a r hdr =>
      split at hcl
      · next mj hsel =>
        cases hk : decide ((r.map fun v => v.category).sum ≤ 8) with
        | false => rw [hk] at hcl; cases hcl
        | true =>
          rw [hk] at hcl
          cases hcl
          rw [decide_eq_true_eq] at hk
          obtain ⟨g1, g2⟩ := cap_split (drop_le hdr)
          rw [hdr] at g1
          have e3 : ek_cv (M mi).1.cls ix n (hp_kd h a) (M mj) := e3 _ _ hsel
          refine ⟨e3.1, Or.inl rfl, ?_⟩
          intro c0 d hM p en s m args below meth c H locs cells slots mc ms ls F hr hS hsz hf
          obtain ⟨f1, f2, f3, f4, f5, f6, f7, f8, f9, fK, fB⟩ := F
          refine Or.inl ⟨rfl, ?_⟩
          have := sx_cv (ls := ls) (rest := r) (below := below) (meth := meth) (e := en) f1 f2 f3 f6 f7 fK hr hS fB hsz e3 hM g2 hk e1 hf
          rw [g1] at this
          exact this
      · cases hcl
    · cases hcl
  · next ix ct n ps =>
    have hlen : len = 5 := by rcases e2 with z | ⟨_, _, _, _, z⟩; exact z; cases z
    subst hlen
    split at hcl
    · next a r hdr =>
      split at hcl
      · next mj hsel =>
        cases hk : decide ((r.map fun v => v.category).sum ≤ 8) with
        | false => rw [hk] at hcl; cases hcl
        | true =>
          rw [hk] at hcl
          have e3 : ek_cf (M mi).1.cls ix n (hp_kd h a) (M mj) := e3 _ _ hsel
          rw [show (Nat.ble 60 (hp_kd h a) && Nat.ble (hp_kd h a) 69) = false from by rw [e3.2.2.1]; rfl] at hcl
          cases hcl
          rw [decide_eq_true_eq] at hk
          obtain ⟨g1, g2⟩ := cap_split (drop_le hdr)
          rw [hdr] at g1
          refine ⟨e3.1, Or.inr rfl, ?_⟩
          intro c0 d hM p en s m args below meth c H locs cells slots mc ms ls F hr hS hsz hf
          obtain ⟨f1, f2, f3, f4, f5, f6, f7, f8, f9, fK, fB⟩ := F
          refine Or.inr ⟨rfl, ?_⟩
          have := sx_cf (ls := ls) (rest := r) (below := below) (meth := meth) (e := en) f1 f2 f3 f6 f7 fK hr hS fB hsz e3 hM g2 hk e1 hf
          rw [g1] at this
          exact this
      · cases hcl
    · cases hcl
  · cases hcl
section SND
variable {l : Launch} {D : va_G} {E : Env0} {M : Nat → MI} {I : Nat → Nat → Option Ent} {hdl : Nat → Nat → Nat → Option (Option (Nat × Nat))}
/-- behind a call: what the caller has to show -/
theorem snd_back {q : MI} {d pc len : Nat} {lo : Lo} {rest : List Value} {h : Hp} {c0 : Rs × Hp} {r : Rs × Hp} {hs : List (Nat × Nat × Nat × Nat)} (hh : hs = q.2.2.2.2) (k1 : hp_top h ≤ hp_top c0.2) (k2 : hp_use h ≤ hp_use c0.2) (k3 : hp_top c0.2 ≤ hp_top r.2) (k4 : hp_use c0.2 ≤ hp_use r.2)
    (ho : ∀ v, c0.1 = .ok v → fr_ok l D E q d (pc + len) lo (v.toList ++ rest) c0.2 r)
    (hx : ∀ x, c0.1 = .error x → (hs = [] ∧ r = c0) ∨ ∃ k, ek_hd q.1.cls q.2.2.1 q.2.1 hs pc x k ∧ fr_ok l D E q d k.1 (lo_del lo k.2) [] c0.2 r)
    {p : Program} {e : Env} {s : State} {m : MethodId} {args : Array Value} {below : List Frame} {meth : Method} {c : Code} {H : Heap} {locs : List Loc} {cells slots mc ms : Nat} {ls : Array Slot} {st0 : List Value} {a : Array Value} (F : fx D E q p s m args meth c) (hS : va_S (rl_A E.1) s.heap H locs) (hl : lv_has ls q.2.2.1 lo)
    (hc : cells + (hp_top r.2 - hp_top h) ≤ mc) (hs' : slots + (hp_use r.2 - hp_use h) ≤ ms)
    (hr : len = 3 ∧ vx_Run p l e (cx_room d mc ms) s m args below meth c H locs cells slots (hp_top c0.2 - hp_top h) (hp_use c0.2 - hp_use h) (F0 m pc ls st0) rest (cx_Q D E c0 a) (cx_X D E c0) (rl_A E.1) ∨
      len = 5 ∧ vx_Run5 p l e (cx_room d mc ms) s m args below meth c H locs cells slots (hp_top c0.2 - hp_top h) (hp_use c0.2 - hp_use h) (F0 m pc ls st0) rest (cx_Q D E c0 a) (cx_X D E c0) (rl_A E.1)) :
    W p l e (cx_room d mc ms) s m args below meth c H locs cells slots (vx_MQ below (cx_Q D E r) (cx_X D E r) args s mc ms (rl_A E.1)) (F0 m pc ls st0) := by
  have F' := F
  obtain ⟨f1, f2, f3, f4, f5, f6, f7, f8, f9, fK, fB⟩ := F
  subst hh
  have hko : ∀ v, c0.1 = .ok v → ∀ (H1 : Heap) (locs1 : List Loc), rl_H D s E.1 c0.2 H1 → va_S (rl_A E.1) s.heap H1 locs1 → W p l e (cx_room d mc ms) s m args below meth c H1 locs1 (cells + (hp_top c0.2 - hp_top h)) (slots + (hp_use c0.2 - hp_use h)) (vx_MQ below (cx_Q D E r) (cx_X D E r) args s mc ms (rl_A E.1)) (F0 m (pc + len) ls (v.toList ++ rest)) :=
    fun v hv H1 locs1 g1 g2 => ho v hv p e s m args below meth c H1 locs1 _ _ mc ms ls F' g1 g2 hl (by omega) (by omega)
  have hkx : ∀ x, c0.1 = .error x → ∀ (q0 : Nat) (ce : Cell) (H1 : Heap) (locs1 : List Loc), H1[q0]? = some ce → ce.vm = .none → s.vm.findClass (ex_nm x) = some ce.cls → rl_H D s E.1 c0.2 H1 → va_S (rl_A E.1) s.heap H1 locs1 → vx_W p l e (cx_room d mc ms) s m args below meth c H1 locs1 (cells + (hp_top c0.2 - hp_top h)) (slots + (hp_use c0.2 - hp_use h)) (vx_MQ below (cx_Q D E r) (cx_X D E r) args s mc ms (rl_A E.1)) (F0 m pc ls rest) q0 := by
    intro x hv q0 ce H1 locs1 g1 g2 g3 g4 g5
    rcases hx x hv with ⟨z1, z2⟩ | ⟨k, z1, z2⟩
    · subst z2
      refine vx_out (fun y hy => ?_) f5 g1 g2 g3 (fun t ht hA => ?_) g5.2.2 (by omega) (by omega)
      · rw [f9, z1] at hy
        cases hy
      · subst ht
        exact ⟨⟨x, hv, rfl⟩, rl_H_moved hA g4, g5.F rfl⟩
    · exact sx_catch f1 f2 f6 f7 fK f9 z1 hl g1 g2 g3 (fun ls' hl' => z2 p e s m args below meth c H1 locs1 _ _ mc ms ls' F' g4 g5 hl' (by omega) (by omega))
  rcases hr with ⟨rfl, hr⟩ | ⟨rfl, hr⟩
  · exact sx_call hr hS hko hkx
  · exact sx_call5 hr hS hko hkx
set_option maxHeartbeats 2000000 in
theorem snd_run (G : gl_ok) (hA : ek_all M I hdl) (hlt : l.stackTraces = false) : ∀ (n d mi pc : Nat) (lo : Lo) (st : List Value) (h : Hp) (r : Rs × Hp), rn_run I (fun i => (M i).2.2.1) fdT hdl E n d mi pc lo st h = some r → hp_ok h → fr_ok l D E (M mi) d pc lo st h r ∧ hp_ok r.2 ∧ hp_top h ≤ hp_top r.2 ∧ hp_use h ≤ hp_use r.2 := by
  intro n
  induction n with
  | zero => intro d mi pc lo st h r hrun; cases hrun
  | succ n ih =>
    intro d mi pc lo st h r hrun w
    rw [rn_run] at hrun
    cases hI : I mi pc with
    | none => rw [hI] at hrun; cases hrun
    | some e =>
      rw [hI] at hrun
      dsimp only at hrun
      have hek := hA.1 mi pc e hI
      cases hst : rn_step E fdT e pc lo st h with
      | none => rw [hst] at hrun; cases hrun
      | some act =>
        rw [hst] at hrun
        cases act with
        | inl z =>
          dsimp only at hrun
          obtain ⟨s1, s2, s3, s4⟩ := stp_all (l := l) (D := D) G hek w hst
          obtain ⟨i1, i2, i3, i4⟩ := ih d mi z.1 z.2.1 z.2.2.1 z.2.2.2 r hrun s1
          exact ⟨s4 d r i3 i4 i1, i2, Nat.le_trans s2 i3, Nat.le_trans s3 i4⟩
        | inr z =>
          cases z with
          | inr z =>
            dsimp only at hrun
            cases hrun
            unfold rn_step at hst
            split at hst
            · obtain ⟨v, hv, e0⟩ := Option.map_eq_some_iff.mp hst; cases e0
            · split at hst
              · obtain ⟨v, hv, e0⟩ := Option.map_eq_some_iff.mp hst; cases e0
              · cases hst
            · split at hst
              · obtain ⟨v, hv, e0⟩ := Option.map_eq_some_iff.mp hst; cases e0
              · cases hst
            · obtain ⟨v, hv, e0⟩ := Option.map_eq_some_iff.mp hst; cases e0
            · split at hst
              · split at hst
                · next v hg =>
                  cases ht : Nat.beq (rn_tag v) _ with
                  | false => rw [ht] at hst; cases hst
                  | true => rw [ht] at hst; cases hst
                · cases hst
              · cases hst
            · split at hst
              · next v rr hi =>
                cases ht : Nat.beq (rn_tag v) _ with
                | false => rw [ht] at hst; cases hst
                | true => rw [ht] at hst; cases hst
              · cases hst
            · split at hst
              · split at hst
                · cases hst
                · cases hst
              · cases hst
            · obtain ⟨v, hv, e0⟩ := Option.map_eq_some_iff.mp hst; cases e0
            · obtain ⟨v, hv, e0⟩ := Option.map_eq_some_iff.mp hst; cases e0
            · obtain ⟨v, hv, e0⟩ := Option.map_eq_some_iff.mp hst; cases e0
            · obtain ⟨v, hv, e0⟩ := Option.map_eq_some_iff.mp hst; cases e0
            · obtain ⟨v, hv, e0⟩ := Option.map_eq_some_iff.mp hst; cases e0
            · next ho =>
              obtain ⟨v, hv, e0⟩ := Option.map_eq_some_iff.mp hst
              cases e0
              refine ⟨?_, w, Nat.le_refl _, Nat.le_refl _⟩
              intro p en s m args below meth c H locs cells slots mc ms ls F hr hS hl hc hs'
              obtain ⟨f1, f2, f3, f4, f5, f6, f7, f8, f9, fK, fB⟩ := F
              have hlen : e.2.1 = 1 := by
                rw [stp_len hek (fun a b c d q => by rw [q] at ho; cases ho)]
                unfold rn_rt at hv
                split at hv <;> first | (next h1 _ _ => rw [h1]; rfl) | (next h1 => rw [h1]; rfl) | (next h1 _ => rw [h1]; rfl) | cases hv
              have hd := hek.1
              rw [hlen] at hd
              exact sx_rt f1 f2 f5 f4 hek.2.2.2.2 hr hS hv hd (by omega) (by omega)
            · next ho =>
              split at hst
              · next y x he =>
                cases hk : decide ((st.map fun v => v.category).sum ≤ 8) with
                | false => rw [hk] at hst; cases hst
                | true =>
                  rw [hk] at hst
                  cases hst
                  rw [decide_eq_true_eq] at hk
                  obtain ⟨ix, hi⟩ := opc13 ho
                  have e3 := hek.2.2.1
                  rw [hi, he] at e3
                  obtain ⟨e3, e4⟩ := e3
                  refine ⟨?_, ok_skip w, Nat.le_add_right _ _, Nat.le_add_right _ _⟩
                  intro p en s m args below meth c H locs cells slots mc ms ls F hr hS hl hc hs'
                  obtain ⟨f1, f2, f3, f4, f5, f6, f7, f8, f9, fK, fB⟩ := F
                  have hc : cells + (hp_top h + 1 - hp_top h) ≤ mc := hc
                  have hs' : slots + (hp_use h + 6 - hp_use h) ≤ ms := hs'
                  exact sx_thr f1 f2 hlt f6 f7 fK f5 (fun y hy => by rw [f9, e3] at hy; cases hy) e4 hr hS (hl.1.trans f3.symm) hk (by omega) (by omega)
              · cases hst
            · cases hst
          | inl z =>
            dsimp only at hrun
            have hcl := step_call hst
            obtain ⟨y1, y2, y3⟩ := call_run (l := l) (D := D) (E := E) hek hcl
            cases d with
            | zero => cases hrun
            | succ d =>
              dsimp only at hrun
              cases hm : Nat.ble (z.2.1.map fun v => v.category).sum (M z.1).2.2.1 with
              | false => rw [hm] at hrun; cases hrun
              | true =>
                rw [hm] at hrun
                dsimp only [cond] at hrun
                cases hcal : rn_run I (fun i => (M i).2.2.1) fdT hdl E n d z.1 0 (lv_args 0 z.2.1) [] h with
                | none => rw [hcal] at hrun; cases hrun
                | some c0 =>
                  rw [hcal] at hrun
                  obtain ⟨i1, i2, i3, i4⟩ := ih d z.1 0 _ [] h c0 hcal w
                  have hM := fr_M y1 (Nat.le_of_ble_eq_true hm) i1
                  obtain ⟨c1, c2⟩ := c0
                  cases c1 with
                  | ok v =>
                    dsimp only at hrun i2 i3 i4
                    obtain ⟨j1, j2, j3, j4⟩ := ih (d + 1) mi (pc + e.2.1) lo (v.toList ++ z.2.2) c2 r hrun i2
                    refine ⟨?_, j2, Nat.le_trans i3 j3, Nat.le_trans i4 j4⟩
                    intro p en s m args below meth c H locs cells slots mc ms ls F hr hS hl hc hs'
                    exact snd_back (c0 := (.ok v, c2)) rfl i3 i4 j3 j4 (fun v' hv => by cases hv; exact j1) (fun x hx => by cases hx) F hS hl hc hs' (y3 hM F hr hS hl.1 ⟨by dsimp only; omega, by dsimp only; omega⟩)
                  | error x =>
                    dsimp only at hrun i2 i3 i4
                    cases hh : hdl mi pc x with
                    | none => rw [hh] at hrun; cases hrun
                    | some kk =>
                      rw [hh] at hrun
                      cases kk with
                      | none =>
                        dsimp only at hrun
                        cases hrun
                        refine ⟨?_, i2, i3, i4⟩
                        intro p en s m args below meth c H locs cells slots mc ms ls F hr hS hl hc hs'
                        exact snd_back (c0 := (.error x, c2)) rfl i3 i4 (Nat.le_refl _) (Nat.le_refl _) (fun v' hv => by cases hv) (fun x' hx => by cases hx; exact Or.inl ⟨hA.2.1 mi pc x hh, rfl⟩) F hS hl hc hs' (y3 hM F hr hS hl.1 ⟨hc, hs'⟩)
                      | some k =>
                        dsimp only at hrun
                        obtain ⟨j1, j2, j3, j4⟩ := ih (d + 1) mi k.1 (lo_del lo k.2) [] c2 r hrun i2
                        refine ⟨?_, j2, Nat.le_trans i3 j3, Nat.le_trans i4 j4⟩
                        intro p en s m args below meth c H locs cells slots mc ms ls F hr hS hl hc hs'
                        exact snd_back (c0 := (.error x, c2)) rfl i3 i4 j3 j4 (fun v' hv => by cases hv) (fun x' hx => by cases hx; exact Or.inr ⟨k, hA.2.2 mi pc x k hh, j1⟩) F hS hl hc hs' (y3 hM F hr hS hl.1 ⟨by dsimp only; omega, by dsimp only; omega⟩)
end SND
