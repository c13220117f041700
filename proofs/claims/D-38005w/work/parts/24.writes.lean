/-! what stands in arrays is of their sort -/
def el_ok (h : Hp) (kd : Nat) (v : Value) : Prop :=
  (kd = kI → ∃ x, v = .int x) ∧ (kd = kZ → v = .int 0 ∨ v = .int 1) ∧ (kd = kJ → ∃ x, v = .long x) ∧ (kd = kO → v = .null ∨ ∃ y, v = .ref y ∧ 9 ≤ hp_kd h y ∧ hp_kd h y ≤ 19)
def hp_wf (h : Hp) : Prop := ∀ a k, 100 < hp_kd h a → k < hp_ln h a → el_ok h (hp_kd h a) (hp_at h a k)
theorem wf_put {h : Hp} (w : hp_wf h) {a k : Nat} {v : Value} (hv : 100 < hp_kd h a → el_ok h (hp_kd h a) v) : hp_wf (hp_put h a k v) := by
  intro b j hb hj
  have hb' : 100 < hp_kd h b := hb
  have hj' : j < hp_ln h b := hj
  show el_ok h (hp_kd h b) (if b = a ∧ j = k then v else hp_at h b j)
  by_cases hc : b = a ∧ j = k
  · rw [if_pos hc]
    obtain ⟨rfl, rfl⟩ := hc
    exact hv hb'
  · rw [if_neg hc]
    exact w b j hb' hj'
theorem el_mono {h h' : Hp} (hk : ∀ y, hp_kd h y ≠ 0 → hp_kd h' y = hp_kd h y) {kd : Nat} {v : Value} (e : el_ok h kd v) : el_ok h' kd v := by
  refine ⟨e.1, e.2.1, e.2.2.1, fun q => ?_⟩
  rcases e.2.2.2 q with z | ⟨y, z1, z2, z3⟩
  · exact Or.inl z
  · exact Or.inr ⟨y, z1, by rw [hk y (by omega)]; exact ⟨z2, z3⟩⟩
theorem wf_new {h : Hp} (w : hp_wf h) (ht : ∀ y, hp_kd h y ≠ 0 → y < hp_top h) {kd ln : Nat} {f : Nat → Value} (hf : 100 < kd → ∀ k, k < ln → el_ok h kd (f k)) : hp_wf (hp_new h kd ln f) := by
  have hk : ∀ y, hp_kd h y ≠ 0 → hp_kd (hp_new h kd ln f) y = hp_kd h y := fun y hy => if_neg (Nat.ne_of_lt (ht y hy))
  intro b j hb hj
  by_cases hc : b = hp_top h
  · subst hc
    have k1 : hp_kd (hp_new h kd ln f) (hp_top h) = kd := if_pos rfl
    have k2 : hp_ln (hp_new h kd ln f) (hp_top h) = ln := if_pos rfl
    rw [k1] at hb ⊢
    rw [k2] at hj
    show el_ok _ kd (if hp_top h = hp_top h then f j else hp_at h (hp_top h) j)
    rw [if_pos rfl]
    exact el_mono hk (hf hb j hj)
  · have k1 : hp_kd (hp_new h kd ln f) b = hp_kd h b := if_neg hc
    have k2 : hp_ln (hp_new h kd ln f) b = hp_ln h b := if_neg hc
    rw [k1] at hb ⊢
    rw [k2] at hj
    show el_ok _ (hp_kd h b) (if b = hp_top h then f j else hp_at h b j)
    rw [if_neg hc]
    exact el_mono hk (w b j hb hj)
theorem wf_skip {h : Hp} (w : hp_wf h) (ht : ∀ y, hp_kd h y ≠ 0 → y < hp_top h) {n m : Nat} : hp_wf (hp_skip h n m) := by
  have hk : ∀ y, hp_kd h y ≠ 0 → hp_kd (hp_skip h n m) y = hp_kd h y := fun y hy => if_neg (Nat.not_le_of_lt (ht y hy))
  intro b j hb hj
  have hlt : ¬ hp_top h ≤ b := fun z => by
    have : hp_kd (hp_skip h n m) b = 0 := if_pos z
    omega
  have k1 : hp_kd (hp_skip h n m) b = hp_kd h b := if_neg hlt
  rw [k1] at hb ⊢
  exact el_mono hk (w b j hb hj)
theorem wf_cpy {h : Hp} (w : hp_wf h) {a i b j n : Nat} (hk : hp_kd h a = hp_kd h b) (h1 : i + n ≤ hp_ln h a) : hp_wf (hp_cpy h a i b j n) := by
  intro c k hc hkl
  have hc' : 100 < hp_kd h c := hc
  have hk' : k < hp_ln h c := hkl
  show el_ok h (hp_kd h c) (if c = b ∧ j ≤ k ∧ k < j + n then hp_at h a (i + (k - j)) else hp_at h c k)
  by_cases q : c = b ∧ j ≤ k ∧ k < j + n
  · rw [if_pos q]
    obtain ⟨rfl, q1, q2⟩ := q
    rw [← hk] at hc' ⊢
    exact w a _ hc' (by omega)
  · rw [if_neg q]
    exact w c k hc' hk'
/-- types of fields by number -/
def tc_ok (ty : FieldType) (t : Nat) : Bool := match ty with
  | .int => t == 0
  | .long => t == 2
  | .boolean => t == 3
  | .object _ => t == 1
  | .array _ => t == 1
  | _ => false
theorem tc_fit {ty : FieldType} {t : Nat} {v : Value} (h1 : tc_ok ty t = true) (h2 : rn_fit t v = true) : narrow ty v = v ∧ fits ty v = true := by
  unfold tc_ok at h1
  split at h1 <;> first
    | (have e := eq_of_beq h1; subst e; unfold rn_fit at h2; split at h2 <;> first
        | (cases h2; done)
        | exact ⟨rfl, rfl⟩
        | (simp only [Bool.or_eq_true, beq_iff_eq] at h2; rcases h2 with h2 | h2 <;> subst h2 <;> exact ⟨by decide, by decide⟩)
        | simp_all)
    | cases h1
/-- a field may be written: not final, or final by its own maker -/
def ek_put (own : String) (init : Bool) (ix kd k t : Nat) : Prop :=
  kd < 50 ∧ kd ≠ 0 ∧ ∃ (q : vw_C) (ref : String), clL[kd - 1]? = some q ∧ k < q.2.2 ∧ tc_ok (clT (kd - 1) k) t = true ∧ (ref = (q.2.1 k).1 ∨ Cond.sameField ref (q.2.1 k).1 (q.2.1 k).2.1 (q.2.1 k).2.2.1 ∈ lw_all) ∧
    ((q.2.1 k).2.2.2 = false ∧ ek_lk own ix ref (q.2.1 k).2.1 (q.2.1 k).2.2.1 ∨ (q.2.1 k).2.2.2 = true ∧ init = true ∧ (q.2.1 k).1 = own ∧ Cond.fieldLink own ix ref (q.2.1 k).2.1 (q.2.1 k).2.2.1 ∈ lw_all)
section SXC
variable {p : Program} {l : Launch} {e : Env} {R : Room} {s : State} {m : MethodId} {args : Array Value} {below : List Frame} {meth : Method} {c : Code} {H : Heap} {locs : List Loc} {cells slots : Nat} {Q : State → Prop}
variable {cc : ByteArray} {pc : Nat} {ls : Array Slot} {rest : List Value} {D : va_G} {E : Env0} {h : Hp}
theorem sx_put (hx : p.tables.exec = Jvm.exec) (hb : c.code = cc) {own : String} (hown : s.vm.findClass own = some m.cls) (hts : ∀ w ∈ lw_all, w.before args s = true) (hcl : cl_ok) (hK : kv_cls D s) (hN : kv_nest s)
    (hr : rl_H D s E.1 h H) (hS0 : va_S (rl_A E.1) s.heap H locs) {init : Bool} (hin0 : init = true → meth.name = "<init>") {ix a k t : Nat} {v : Value} (hB : E.1 ≤ a) (hf : ek_put own init ix (hp_kd h a) k t) (hv : rn_fit t v = true) (hd : decode cc pc = .ok (.putfield ix, 3))
    (kk : ∀ (H1 : Heap) (locs1 : List Loc), rl_H D s E.1 (hp_put h a k v) H1 → va_S (rl_A E.1) s.heap H1 locs1 → W p l e R s m args below meth c H1 locs1 cells slots Q (F0 m (pc + 3) ls rest)) : W p l e R s m args below meth c H locs cells slots Q (F0 m pc ls (v :: .ref a :: rest)) := by
  obtain ⟨h1, h0, q, ref, h2, h3, htc, h5, h6⟩ := hf
  obtain ⟨cell, c1, c2, c3, c4, c5, c6⟩ := hr.2 a h0
  obtain ⟨q', z1, z2, z3⟩ := c5.1 h1
  cases h2.symm.trans z1
  obtain ⟨hS, hfc, kC, hkC, hkind⟩ := hK _ q h2
  obtain ⟨cf, kf, fi, f, hi, hsl⟩ := hS k h3
  obtain ⟨hin, -, -, hty, hnm⟩ := hcl _ q h2
  obtain ⟨hn, hfit⟩ := tc_fit htc hv
  have hvm := c4 hB
  have hKa : va_K D clL [] s := ⟨hK, fun k q hk => by cases hk⟩
  have hap := va_apart (own := own) hts hin (clT (hp_kd h a - 1)) hty hnm hKa h2
  have ixe : ∀ x, rl_ix D (hp_kd h a) x = D.2 (hp_kd h a - 1) x := fun x => if_pos h1
  have hsame : s.fieldFound? ref (q.2.1 k).2.1 (q.2.1 k).2.2.1 = some (cf, kf, fi, f) := by
    rcases h5 with rfl | h5
    · exact hi
    · exact u_same (hts _ h5) _ hi
  have hst := (u_facts hfc hkC (u_lays hts hin h3) hi).1
  have hlay := hts _ (hin _ (u_in_lay h3))
  have hsz : f.slot < cell.slots.size := by
    have := c6 k (by rw [z3]; exact h3)
    rw [ixe, ← hsl] at this
    exact k2_hasslot this
  have fin : ∀ H1 : Heap, H1[a]? = some (cell.setSlot f.slot v) → H1.size = H.size → (∀ q, q ≠ a → H1[q]? = H[q]?) → W p l e R s m args below meth c H1 (locs ++ [⟨a, f.slot⟩]) cells slots Q (F0 m (pc + 3) ls rest) := by
    intro H1 e1 e2 e3
    refine kk H1 _ (rl_put hr h0 (by rw [z3]; exact h3) (by rw [ixe, hsl]) (fun x hx hne => ?_) c1 hB e1 e2 e3) (hS0.put e2 e3 hB)
    rw [ixe, hsl]
    exact hap x k (by rw [← z3]; exact hx) h3 hne
  rcases h6 with ⟨g1, g2⟩ | ⟨g1, g2, g3, g4⟩
  · unfold u_lay at hlay
    rw [if_neg (by rw [g1]; decide)] at hlay
    have h7 := u_store hfc hkC hkind hlay hi (hty k h3) hn hfit
    rcases g2 with g2 | ⟨host, g2⟩
    · exact W.putK hx hb (f := f) ⟨hown, hts _ g2, ⟨_, _, _, hsame⟩, hst⟩ (by rw [z2]; exact h7) c1 hvm hsz rfl rfl hd fin
    · exact va_WputK hx hb (f := f) hown (nw_use rfl (hN _ g2 rfl)) hsame hst (by rw [z2]; exact h7) c1 hvm hsz rfl rfl hd fin
  · unfold u_lay at hlay
    rw [if_pos g1] at hlay
    have hcf : m.cls = cf := by
      obtain ⟨_, _, c', _, _, _, -, -, hf', -, -, -, hown2, -⟩ := Cond.laysFinal_spec hlay
      have e1 : c' = cf := by have := hi.symm.trans hf'; simp at this; exact this.1.symm
      rw [g3] at hown2
      rw [← e1]; exact Option.some.inj (hown.symm.trans hown2)
    have h7 := u_fits hfc hkC hkind (Or.inr hlay) hi (hty k h3) hn hfit
    exact W.putFinK hx hb hown (hts _ g4) hsame hst hcf (hin0 g2) (by rw [z2]; exact h7) c1 hvm hsz rfl rfl hd fin
theorem rl_arrB (hr : rl_H D s E.1 h H) {a : Nat} (hk : 100 < hp_kd h a) (hB : E.1 ≤ a) {j : Nat} {v : Value} (hj : j < hp_ln h a) : ∃ cell : Cell, H[a]? = some cell ∧ s.isArrayOf cell (ar_ty (hp_kd h a)) ∧ cell.vm ≠ .unknown ∧ cell.slots.size = hp_ln h a ∧
    ∀ H1 : Heap, H1[a]? = some (cell.setSlot j v) → H1.size = H.size → (∀ q, q ≠ a → H1[q]? = H[q]?) → rl_H D s E.1 (hp_put h a j v) H1 := by
  obtain ⟨cell, c1, c2, c3, c4, c5, c6⟩ := hr.2 a (by omega)
  obtain ⟨z1, z2, z3⟩ := c5.2.2.2 hk
  have ixe : ∀ x, rl_ix D (hp_kd h a) x = x := fun x => by unfold rl_ix; rw [if_neg (by omega), if_neg (by omega)]
  exact ⟨cell, c1, z2, c3, z1, fun H1 e1 e2 e3 => rl_put hr (by omega) hj (ixe j) (fun x _ hne => by rw [ixe]; exact hne) c1 hB e1 e2 e3⟩
theorem sx_iast (hx : p.tables.exec = Jvm.exec) (hb : c.code = cc) (hr : rl_H D s E.1 h H) (hS0 : va_S (rl_A E.1) s.heap H locs) {a : Nat} {i x : Int32} (hB : E.1 ≤ a) (hk : hp_kd h a = kI) (hin : rn_in i (hp_ln h a) = true) (hd : decode cc pc = .ok (.iastore, 1))
    (kk : ∀ (H1 : Heap) (locs1 : List Loc), rl_H D s E.1 (hp_put h a i.toNatClampNeg (.int x)) H1 → va_S (rl_A E.1) s.heap H1 locs1 → W p l e R s m args below meth c H1 locs1 cells slots Q (F0 m (pc + 1) ls rest)) : W p l e R s m args below meth c H locs cells slots Q (F0 m pc ls (.int x :: .int i :: .ref a :: rest)) := by
  have h1 := sx_in hin
  obtain ⟨cell, c1, c2, c3, c4, c5⟩ := rl_arrB hr (a := a) (j := i.toNatClampNeg) (v := .int x) (by rw [hk]; decide) hB (by omega)
  rw [hk] at c2
  exact W.iast hx hb c1 c2 c3 (by rw [c4]; exact h1) rfl rfl hd (fun H1 e1 e2 e3 => kk H1 _ (c5 H1 e1 e2 e3) (hS0.put e2 e3 hB))
theorem sx_zast (hx : p.tables.exec = Jvm.exec) (hb : c.code = cc) (hr : rl_H D s E.1 h H) (hS0 : va_S (rl_A E.1) s.heap H locs) {a : Nat} {i x : Int32} (hB : E.1 ≤ a) (hk : hp_kd h a = kZ) (hin : rn_in i (hp_ln h a) = true) (h01 : x = 0 ∨ x = 1) (hd : decode cc pc = .ok (.bastore, 1))
    (kk : ∀ (H1 : Heap) (locs1 : List Loc), rl_H D s E.1 (hp_put h a i.toNatClampNeg (.int x)) H1 → va_S (rl_A E.1) s.heap H1 locs1 → W p l e R s m args below meth c H1 locs1 cells slots Q (F0 m (pc + 1) ls rest)) : W p l e R s m args below meth c H locs cells slots Q (F0 m pc ls (.int x :: .int i :: .ref a :: rest)) := by
  have h1 := sx_in hin
  obtain ⟨cell, c1, c2, c3, c4, c5⟩ := rl_arrB hr (a := a) (j := i.toNatClampNeg) (v := .int x) (by rw [hk]; decide) hB (by omega)
  rw [hk] at c2
  have hn : narrow .boolean (.int x) = .int x := by rcases h01 with rfl | rfl <;> decide
  exact W.zast hx hb c1 c2 c3 (by rw [c4]; exact h1) rfl rfl hd (fun H1 e1 e2 e3 => kk H1 _ (c5 H1 (by rw [← hn]; exact e1) e2 e3) (hS0.put e2 e3 hB))
theorem sx_last (hx : p.tables.exec = Jvm.exec) (hb : c.code = cc) (hr : rl_H D s E.1 h H) (hS0 : va_S (rl_A E.1) s.heap H locs) {a : Nat} {i : Int32} {x : Int64} (hB : E.1 ≤ a) (hk : hp_kd h a = kJ) (hin : rn_in i (hp_ln h a) = true) (hd : decode cc pc = .ok (.lastore, 1))
    (kk : ∀ (H1 : Heap) (locs1 : List Loc), rl_H D s E.1 (hp_put h a i.toNatClampNeg (.long x)) H1 → va_S (rl_A E.1) s.heap H1 locs1 → W p l e R s m args below meth c H1 locs1 cells slots Q (F0 m (pc + 1) ls rest)) : W p l e R s m args below meth c H locs cells slots Q (F0 m pc ls (.long x :: .int i :: .ref a :: rest)) := by
  have h1 := sx_in hin
  obtain ⟨cell, c1, c2, c3, c4, c5⟩ := rl_arrB hr (a := a) (j := i.toNatClampNeg) (v := .long x) (by rw [hk]; decide) hB (by omega)
  rw [hk] at c2
  exact W.last hx hb c1 c2 c3 (by rw [c4]; exact h1) rfl rfl hd (fun H1 e1 e2 e3 => kk H1 _ (c5 H1 e1 e2 e3) (hS0.put e2 e3 hB))
theorem sx_aastN (hx : p.tables.exec = Jvm.exec) (hb : c.code = cc) (hr : rl_H D s E.1 h H) (hS0 : va_S (rl_A E.1) s.heap H locs) {a : Nat} {i : Int32} (hB : E.1 ≤ a) (hk : hp_kd h a = kO) (hin : rn_in i (hp_ln h a) = true) (hd : decode cc pc = .ok (.aastore, 1))
    (kk : ∀ (H1 : Heap) (locs1 : List Loc), rl_H D s E.1 (hp_put h a i.toNatClampNeg .null) H1 → va_S (rl_A E.1) s.heap H1 locs1 → W p l e R s m args below meth c H1 locs1 cells slots Q (F0 m (pc + 1) ls rest)) : W p l e R s m args below meth c H locs cells slots Q (F0 m pc ls (.null :: .int i :: .ref a :: rest)) := by
  have h1 := sx_in hin
  obtain ⟨cell, c1, c2, c3, c4, c5⟩ := rl_arrB hr (a := a) (j := i.toNatClampNeg) (v := .null) (by rw [hk]; decide) hB (by omega)
  rw [hk] at c2
  exact va_WaastN hx hb (C := "java/lang/Object") c1 c2 c3 (by rw [c4]; exact h1) rfl rfl hd (fun H1 e1 e2 e3 => kk H1 _ (c5 H1 e1 e2 e3) (hS0.put e2 e3 hB))
/-- a value of kind kb may stand in an array of kind ka -/
def ek_as (ka kb : Nat) : Prop := 104 ≤ ka ∧ kb ≠ 0 ∧ (kb < 50 ∧ (kd_nm kb = ar_co ka ∨ Cond.castable (kd_nm kb) (ar_co ka) ∈ lw_tbl) ∨ kb = 101 ∧ ka = 107)
theorem sx_aast (hx : p.tables.exec = Jvm.exec) (hb : c.code = cc) (hK : kv_cls D s) (hN : kv_nest s) (hr : rl_H D s E.1 h H) (hS0 : va_S (rl_A E.1) s.heap H locs) {a b : Nat} {i : Int32} (hB : E.1 ≤ a) (hB2 : E.1 ≤ b) (hk : ek_as (hp_kd h a) (hp_kd h b)) (hin : rn_in i (hp_ln h a) = true) (hd : decode cc pc = .ok (.aastore, 1))
    (kk : ∀ (H1 : Heap) (locs1 : List Loc), rl_H D s E.1 (hp_put h a i.toNatClampNeg (.ref b)) H1 → va_S (rl_A E.1) s.heap H1 locs1 → W p l e R s m args below meth c H1 locs1 cells slots Q (F0 m (pc + 1) ls rest)) : W p l e R s m args below meth c H locs cells slots Q (F0 m pc ls (.ref b :: .int i :: .ref a :: rest)) := by
  have h1 := sx_in hin
  obtain ⟨k4, kb0, kcase⟩ := hk
  obtain ⟨cell, c1, c2, c3, c4, c5⟩ := rl_arrB hr (a := a) (j := i.toNatClampNeg) (v := .ref b) (by omega) hB (by omega)
  obtain ⟨cell', y1, y2, y3, y4, y5, y6⟩ := hr.2 a (by omega)
  cases c1.symm.trans y1
  obtain ⟨-, -, -, w4⟩ := y5.2.2.2 (by omega)
  obtain ⟨k, comp, kc, g1, g2, g3, g4⟩ := w4 hB (by omega)
  obtain ⟨cb, b1, b2, b3, b4, b5, b6⟩ := hr.2 b kb0
  have hasg : s.vm.assignable cb.cls comp = true ∧ ∃ kv, s.vm.classes[cb.cls]? = some kv := by
    rcases kcase with ⟨z1, z2⟩ | ⟨z1, z2⟩
    · obtain ⟨cb', x1, x2, x3⟩ := rl_recv hK hr kb0 (by omega)
      cases b1.symm.trans x1
      obtain ⟨kv, hkv, -⟩ := Vm.findClass_spec x3
      refine ⟨?_, kv, hkv⟩
      rcases z2 with z2 | z2
      · rw [z2, g3] at x3
        cases x3
        exact va_asg _ _
      · obtain ⟨c0, t0, f1, f2, f3⟩ := Cond.castable_spec (nw_use (A := #[]) rfl (hN _ z2 rfl))
        cases x3.symm.trans f1
        cases g3.symm.trans f2
        exact f3
    · obtain ⟨-, -, v3, -⟩ := b5.2.2.2 (by omega)
      have v4 := v3 (Or.inl hB2)
      rw [z1] at v4
      rw [z2] at g3
      have e : some comp = some cb.cls := g3.symm.trans v4
      cases e
      exact ⟨va_asg _ _, kc, g4⟩
  obtain ⟨hasg, kv, hkv⟩ := hasg
  exact W.aast hx hb c1 (fun q z => by rw [z] at y2; cases y2) c3 g1 g2 (ar_ref k4) g4 ⟨fun z => h1 (Or.inl z), by omega⟩ b1 (fun q z => by rw [z] at b2; cases b2) hkv hasg rfl rfl hd (fun H1 e1 e2 e3 => kk H1 _ (c5 H1 e1 e2 e3) (hS0.put e2 e3 hB))
end SXC
