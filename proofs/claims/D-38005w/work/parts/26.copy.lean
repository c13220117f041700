section SXE
variable {p : Program} {l : Launch} {e : Env} {R : Room} {s : State} {m : MethodId} {args : Array Value} {below : List Frame} {meth : Method} {c : Code} {H : Heap} {locs : List Loc} {cells slots : Nat} {Q : State → Prop}
variable {cc : ByteArray} {pc : Nat} {ls : Array Slot} {rest : List Value} {D : va_G} {E : Env0} {h : Hp}
def ek_ac (own : String) (ix : Nat) : Prop := Cond.methodLink own ix arraycopyName ∈ lw_all ∧ Cond.native arraycopyName ∈ lw_all ∧ Cond.static arraycopyName ∈ lw_all ∧ Cond.initialized "java/lang/System" ∈ lw_all
/-- the kinds that may stand in an array of Object: castable to it -/
def ob_ok : Prop := ∀ kd, 9 ≤ kd → kd ≤ 19 → Cond.castable (kd_nm kd) "java/lang/Object" ∈ lw_tbl
theorem sx_copy (hx : p.tables.exec = Jvm.exec) (hb : c.code = cc) (hsz : ls.size = c.maxLocals) {own : String} (hown : s.vm.findClass own = some m.cls) (hts : ∀ w ∈ lw_all, w.before args s = true) (hob : ob_ok) (hK : kv_cls D s) (hN : kv_nest s) (hr : rl_H D s E.1 h H) (hw : hp_wf h) (hS0 : va_S (rl_A E.1) s.heap H locs)
    {ix a b : Nat} {i j n : Int32} (hl : ek_ac own ix) (hB : E.1 ≤ b) (hk : hp_kd h a = hp_kd h b) (k1 : kI ≤ hp_kd h b) (k2 : hp_kd h b ≤ kO) (h1 : ¬ i < 0) (h2 : ¬ j < 0) (h3 : ¬ n < 0) (h4 : i.toNatClampNeg + n.toNatClampNeg ≤ hp_ln h a) (h5 : j.toNatClampNeg + n.toNatClampNeg ≤ hp_ln h b)
    (hfr : 1 ≤ R.frames) (hlo : (rest.map fun v => v.category).sum + 20 ≤ R.locals) (hd : decode cc pc = .ok (.invokestatic ix, 3))
    (kk : ∀ (H1 : Heap) (locs1 : List Loc), rl_H D s E.1 (hp_cpy h a i.toNatClampNeg b j.toNatClampNeg n.toNatClampNeg) H1 → va_S (rl_A E.1) s.heap H1 locs1 → W p l e R s m args below meth c H1 locs1 cells slots Q (F0 m (pc + 3) ls rest)) : W p l e R s m args below meth c H locs cells slots Q (F0 m pc ls (.int n :: .int j :: .ref b :: .int i :: .ref a :: rest)) := by
  have k1' : 101 ≤ hp_kd h b := k1
  have k2' : hp_kd h b ≤ 104 := k2
  obtain ⟨l1, l2, l3, l4⟩ := hl
  intro T hT X
  obtain ⟨ca, a1, a2, a3, a4, a5, a6⟩ := hr.2 a (by omega)
  obtain ⟨cb, b1, b2, b3, b4, b5, b6⟩ := hr.2 b (by omega)
  obtain ⟨za1, za2, -, -⟩ := a5.2.2.2 (by omega)
  obtain ⟨zb1, zb2, zb3, zb4⟩ := b5.2.2.2 (by omega)
  obtain ⟨oa, ka, hka, cma, hkka⟩ := za2
  obtain ⟨ob, kb, hkb, cmb, hkkb⟩ := zb2
  have ixa : ∀ x, rl_ix D (hp_kd h a) x = x := fun x => by unfold rl_ix; rw [if_neg (by omega), if_neg (by omega)]
  have ixb : ∀ x, rl_ix D (hp_kd h b) x = x := fun x => by unfold rl_ix; rw [if_neg (by omega), if_neg (by omega)]
  have hel : ∀ q, q < n.toNatClampNeg → ca.slots.getD (i.toNatClampNeg + q) .null = hp_at h a (i.toNatClampNeg + q) := fun q hq => by
    have := a6 (i.toNatClampNeg + q) (by omega)
    rw [ixa] at this
    rw [Array.getD_eq_getD_getElem?, this]
    rfl
  obtain ⟨vm', X', step⟩ := X.arraycopy hx hown (hts _ l1) (hts _ l2) (hts _ l3) (hts _ l4) (src := a) (dst := b) (cs := ca) (cd := cb) (srcPos := i) (destPos := j) (n := n) (by rw [hT]; exact a1) (by rw [hT]; exact b1)
    oa ob a3 b3 hka hkb hkka hkkb (by rw [hk]; simp) h1 h2 h3 (by rw [nn_clamp h1, nn_clamp h3, za1]; omega) (by rw [nn_clamp h2, nn_clamp h3, zb1]; omega)
    (fun vm₁ hal q hq => by
      rw [hel q hq]
      have hv := hw a (i.toNatClampNeg + q) (by omega) (by omega)
      rw [hk] at hv
      obtain ⟨v1, v2, v3, v4⟩ := hv
      rcases (by omega : hp_kd h b = 101 ∨ hp_kd h b = 102 ∨ hp_kd h b = 103 ∨ hp_kd h b = 104) with z | z | z | z
      · obtain ⟨x, e⟩ := v1 z
        rw [e, z]
        exact ⟨rfl, trivial⟩
      · rcases v2 z with e | e <;> rw [e, z] <;> exact ⟨rfl, trivial⟩
      · obtain ⟨x, e⟩ := v3 z
        rw [e, z]
        exact ⟨rfl, trivial⟩
      · rcases v4 z with e | ⟨y, e, y1, y2⟩
        · rw [e, z]
          exact ⟨rfl, trivial⟩
        · rw [e, z]
          obtain ⟨kA, comp, kc, g1, g2, g3, g4⟩ := zb4 hB (by omega)
          cases hkb.symm.trans g1
          rw [hkkb] at g2
          cases g2
          rw [z] at g3
          obtain ⟨cy, w1, w2, w3⟩ := rl_recv hK hr (a := y) (by omega) (by omega)
          obtain ⟨c0, t0, f1, f2, f3⟩ := Cond.castable_spec (nw_use (A := #[]) rfl (hN _ (hob _ y1 y2) rfl))
          cases w3.symm.trans f1
          cases g3.symm.trans f2
          obtain ⟨kC, hkC, -⟩ := Vm.findClass_spec w3
          obtain ⟨kC', hkC', -⟩ := hal.2.2 _ _ hkC
          obtain ⟨kE', hkE', -⟩ := hal.2.2 _ _ g4
          refine ⟨rfl, cy, (show T.heap[y]? = some cy by rw [hT]; exact w1), (fun q z => by rw [z] at w2; cases w2), ⟨kC', hkC'⟩, ⟨kE', hkE'⟩, ?_⟩
          show vm₁.assignable _ _ = true
          rw [hal.assignable]
          exact f3)
    (g := F0 m pc ls (.int n :: .int j :: .ref b :: .int i :: .ref a :: rest)) rfl hsz (rest := rest) rfl (by rw [hb]; exact hd) hfr (by show 2 * 0 + _ + (7 + 11) ≤ _; omega)
  have hlt : b < H.size := (Array.getElem?_eq_some_iff.mp b1).1
  obtain ⟨sr1, sr2, sr3, -, -⟩ := Cell.storeRun_facts cb j.toNatClampNeg (ca.stretch i.toNatClampNeg n.toNatClampNeg)
  have hlen : (ca.stretch i.toNatClampNeg n.toNatClampNeg).length = n.toNatClampNeg := Cell.stretch_length ..
  have hheap : ((T.setVm vm').setCell b (copied ca cb i j n)).heap = H.setIfInBounds b (copied ca cb i j n) := by rw [← hT]; rfl
  have oq : ∀ q : Nat, q ≠ b → (H.setIfInBounds b (copied ca cb i j n))[q]? = H[q]? := fun q hq => by simp [Array.getElem?_setIfInBounds, Ne.symm hq]
  have ob' : (H.setIfInBounds b (copied ca cb i j n))[b]? = some (copied ca cb i j n) := by simp [Array.getElem?_setIfInBounds, hlt]
  have hR : rl_H D s E.1 (hp_cpy h a i.toNatClampNeg b j.toNatClampNeg n.toNatClampNeg) (H.setIfInBounds b (copied ca cb i j n)) := by
    refine ⟨by simp; exact hr.1, fun x hx0 => ?_⟩
    have hx1 : hp_kd h x ≠ 0 := hx0
    obtain ⟨cx, x1, x2, x3, x4, x5, x6⟩ := hr.2 x hx1
    by_cases hxb : x = b
    · subst hxb
      cases b1.symm.trans x1
      refine ⟨copied ca cb i j n, ob', by rw [sr2]; exact x2, by rw [sr2]; exact x3, fun z => by rw [sr2]; exact x4 z, ?_, fun k hkk => ?_⟩
      · obtain ⟨d1, d2, d3, d4⟩ := x5
        refine ⟨fun z => absurd (show hp_kd h x < 50 from z) (by omega), fun _ z => absurd (show hp_kd h x < 60 from z) (by omega), fun _ z => absurd (show hp_kd h x < 70 from z) (by omega), fun z => ?_⟩
        obtain ⟨t1, t2, t3, t4⟩ := d4 z
        obtain ⟨u1, u2⟩ := t2
        refine ⟨by rw [sr3]; exact t1, ⟨fun q => by rw [sr2]; exact u1 q, by rw [sr1]; exact u2⟩, fun q => by rw [sr1]; exact t3 q, fun q r => by rw [sr1]; exact t4 q r⟩
      · have hkk' : k < hp_ln h x := hkk
        show (cb.storeRun j.toNatClampNeg (ca.stretch i.toNatClampNeg n.toNatClampNeg)).slots[rl_ix D (hp_kd h x) k]? = some (if x = x ∧ j.toNatClampNeg ≤ k ∧ k < j.toNatClampNeg + n.toNatClampNeg then hp_at h a (i.toNatClampNeg + (k - j.toNatClampNeg)) else hp_at h x k)
        rw [ixb, Cell.storeRun_get _ _ _ _ (by rw [hlen, zb1]; exact h5), hlen]
        by_cases hc : j.toNatClampNeg ≤ k ∧ k < j.toNatClampNeg + n.toNatClampNeg
        · rw [if_pos hc, if_pos ⟨rfl, hc⟩]
          have hq : k - j.toNatClampNeg < n.toNatClampNeg := by omega
          rw [← hel _ hq]
          simp only [Cell.stretch, List.getElem?_map, List.getElem?_range hq, Option.map_some]
        · rw [if_neg hc, if_neg (fun z => hc z.2)]
          have := x6 k hkk'
          rw [ixb] at this
          exact this
    · refine ⟨cx, by rw [oq x hxb]; exact x1, x2, x3, x4, x5, fun k hkk => ?_⟩
      show cx.slots[rl_ix D (hp_kd h x) k]? = some (if x = b ∧ j.toNatClampNeg ≤ k ∧ k < j.toNatClampNeg + n.toNatClampNeg then hp_at h a (i.toNatClampNeg + (k - j.toNatClampNeg)) else hp_at h x k)
      rw [if_neg (fun z => hxb z.1)]
      exact x6 k hkk
  obtain ⟨t, t1, t2⟩ := kk _ _ hR ⟨by simp; exact hS0.1, fun q g1 g2 => by
      rw [oq q (fun e => g2 (by rw [e]; exact hB))]
      exact hS0.2.1 q g1 g2, fun q hq => by
      rcases List.mem_append.mp hq with z | z
      · exact hS0.2.2 q z
      · obtain ⟨y, -, rfl⟩ := List.mem_map.mp z
        exact hB⟩ _ hheap X'
  exact ⟨t, step t t1, t2⟩
end SXE
