theorem nn_clamp {z : Int32} (hz : ¬ z < 0) : z.toInt = (z.toNatClampNeg : Int) := by
  have hz0 : (0 : Int) ≤ z.toInt := by
    have := Int32.not_lt.mp hz
    simpa using Int32.le_iff_toInt_le.mp this
  show z.toInt = ((z.toInt.toNat : Nat) : Int)
  omega
section SXD
variable {p : Program} {l : Launch} {e : Env} {R : Room} {s : State} {m : MethodId} {args : Array Value} {below : List Frame} {meth : Method} {c : Code} {H : Heap} {locs : List Loc} {cells slots : Nat} {Q : State → Prop}
variable {cc : ByteArray} {pc : Nat} {ls : Array Slot} {rest : List Value} {D : va_G} {E : Env0} {h : Hp}
theorem sx_ldcM (hx : p.tables.exec = Jvm.exec) (hb : c.code = cc) {own : String} (hown : s.vm.findClass own = some m.cls) (hts : ∀ w ∈ lw_all, w.before args s = true) (hM : kv_mir E s) {ix : Nat} (hl : Cond.classLink own ix "[Ljava/lang/Object;" ∈ lw_all) (hd : decode cc pc = .ok (.ldc ix, 2))
    (kk : W p l e R s m args below meth c H locs cells slots Q (F0 m (pc + 2) ls (E.2 9 :: rest))) : W p l e R s m args below meth c H locs cells slots Q (F0 m pc ls rest) := by
  obtain ⟨mi, e1, hM⟩ := hM
  rw [e1] at kk
  exact va_ldcM hx hb hown (hts _ hl) hM hd kk
abbrev y_getClass : MethodName := ⟨"java/lang/Object", "getClass", "()Ljava/lang/Class;"⟩
def ek_gc (own : String) (ix : Nat) : Prop := Cond.methodLink own ix y_getClass ∈ lw_all ∧ Cond.declares y_getClass ∈ lw_tbl ∧ Cond.selects "[Ljava/lang/Object;" y_getClass y_getClass ∈ lw_all ∧ Cond.instanceMethod y_getClass ∈ lw_all ∧ Cond.native y_getClass ∈ lw_all
theorem sx_getC (hx : p.tables.exec = Jvm.exec) (hb : c.code = cc) (hsz : ls.size = c.maxLocals) {own : String} (hown : s.vm.findClass own = some m.cls) (hts : ∀ w ∈ lw_all, w.before args s = true) (hN : kv_nest s) (hM : kv_mir E s) (hr : rl_H D s E.1 h H) {ix a : Nat} (hl : ek_gc own ix) (hk : hp_kd h a = kO)
    (hfr : 1 ≤ R.frames) (hlo : (rest.map fun v => v.category).sum + 14 ≤ R.locals) (hd : decode cc pc = .ok (.invokevirtual ix, 3))
    (kk : W p l e R s m args below meth c H locs cells slots Q (F0 m (pc + 3) ls (E.2 9 :: rest))) : W p l e R s m args below meth c H locs cells slots Q (F0 m pc ls (.ref a :: rest)) := by
  obtain ⟨mi, e1, hM⟩ := hM
  obtain ⟨l1, l2, l3, l4, l5⟩ := hl
  rw [e1] at kk
  obtain ⟨cell, c1, c2, c3, c4, c5, c6⟩ := hr.2 a (by rw [hk]; decide)
  obtain ⟨-, -, z3, -⟩ := c5.2.2.2 (by rw [hk]; decide)
  have z4 := z3 (Or.inr hk)
  rw [hk] at z4
  exact va_getC hx hb hsz.symm hown (hts _ l1) (nw_use rfl (hN _ l2 rfl)) (hts _ l3) (hts _ l4) (hts _ l5) hM ⟨cell, c1, c2, z4⟩ hfr hlo hd kk
theorem sx_new (hx : p.tables.exec = Jvm.exec) (hb : c.code = cc) {own : String} (hown : s.vm.findClass own = some m.cls) (hts : ∀ w ∈ lw_all, w.before args s = true) (hcl : cl_ok) (hK : kv_cls D s) (hr : rl_H D s E.1 h H) (hS0 : va_S (rl_A E.1) s.heap H locs) (hB : E.1 ≤ s.heap.size)
    {ix ci : Nat} {q : vw_C} (hq : clL[ci]? = some q) (hci : ci < 49) (hl : Cond.classLink own ix q.1 ∈ lw_all) (hc : cells + 1 ≤ R.cells) (hs : slots + (fdT ci).1 ≤ R.slots) (hd : decode cc pc = .ok (.new ix, 3))
    (kk : ∀ H1 : Heap, rl_H D s E.1 (hp_new h (ci + 1) (fdT ci).1 (fdT ci).2) H1 → va_S (rl_A E.1) s.heap H1 locs → W p l e R s m args below meth c H1 locs (cells + 1) (slots + (fdT ci).1) Q (F0 m (pc + 3) ls (.ref (hp_top h) :: rest))) : W p l e R s m args below meth c H locs cells slots Q (F0 m pc ls rest) := by
  obtain ⟨hin, h2, h3, hty, hnm⟩ := hcl _ q hq
  have hK1 := hK _ q hq
  have hN : (fdT ci).1 = q.2.2 := by unfold fdT; simp only [List.getD_eq_getElem?_getD, hq]; rfl
  rw [hN] at hs kk
  refine W.newcK hx hb hown (hts _ hl) (hts _ h2) (hts _ h3) rfl hd hc hs hK1.2.1 (h := hp_top h) hr.1 fun H1 kC g1 g2 g3 g4 => ?_
  obtain ⟨cell, o1, o2, o3, o4⟩ := u_born (clT ci) hts hin hK1 g1 g2 hty
  refine kk H1 (rl_new hr (Nat.le_trans hB (by rw [← hr.1]; exact hS0.1)) o1 g3 g4 o3 ?_ fun k hk => ?_) ⟨?_, fun x h1 h2 => ?_, hS0.2.2⟩
  · refine ⟨fun _ => ⟨q, hq, o2, rfl⟩, fun a => by omega, fun a => by omega, fun a => by omega⟩
  · rw [show rl_ix D (ci + 1) k = D.2 ci k from if_pos (by omega)]
    exact o4 k hk
  · exact Nat.le_trans hS0.1 (by rw [g3, hr.1]; exact Nat.le_succ _)
  · exact (g4 x (by rw [← hr.1]; exact Nat.lt_of_lt_of_le h1 hS0.1)).trans (hS0.2.1 x h1 h2)
theorem push_facts {cell : Cell} : (H.push cell)[H.size]? = some cell ∧ (H.push cell).size = H.size + 1 ∧ ∀ q : Nat, q < H.size → (H.push cell)[q]? = H[q]? :=
  ⟨Array.getElem?_push_size, Array.size_push .., fun q hq => by rw [Array.getElem?_push, if_neg (Nat.ne_of_lt hq)]⟩
def ek_na (t : ArrayType) (k : Nat) : Prop := (t = .int ∧ k = kI ∨ t = .boolean ∧ k = kZ ∨ t = .long ∧ k = kJ) ∧ Cond.arrayClass (newarray.typeOf t) ∈ lw_all
theorem sx_newa (hx : p.tables.exec = Jvm.exec) (hb : c.code = cc) (hts : ∀ w ∈ lw_all, w.before args s = true) (hr : rl_H D s E.1 h H) (hS0 : va_S (rl_A E.1) s.heap H locs) (hB : E.1 ≤ s.heap.size)
    {t : ArrayType} {k : Nat} {n : Int32} (hk : ek_na t k) (hn : ¬ n < 0) (hn2 : n.toNatClampNeg ≤ 1000000) (hc : cells + 1 ≤ R.cells) (hs : slots + n.toNatClampNeg ≤ R.slots) (hd : decode cc pc = .ok (.newarray t, 2))
    (kk : ∀ H1 : Heap, rl_H D s E.1 (hp_new h k n.toNatClampNeg (fun _ => if k = kJ then .long 0 else .int 0)) H1 → va_S (rl_A E.1) s.heap H1 locs → W p l e R s m args below meth c H1 locs (cells + 1) (slots + n.toNatClampNeg) Q (F0 m (pc + 2) ls (.ref (hp_top h) :: rest))) : W p l e R s m args below meth c H locs cells slots Q (F0 m pc ls (.int n :: rest)) := by
  obtain ⟨hk, hw⟩ := hk
  have hbytes : n.toNatClampNeg * componentBytes (newarray.typeOf t) ≤ 536870912 := by
    have : componentBytes (newarray.typeOf t) ≤ 8 := by rcases hk with ⟨rfl, -⟩ | ⟨rfl, -⟩ | ⟨rfl, -⟩ <;> decide
    calc n.toNatClampNeg * componentBytes (newarray.typeOf t) ≤ 1000000 * 8 := Nat.mul_le_mul hn2 this
      _ ≤ 536870912 := by decide
  refine W.newa hx hb (hts _ hw) rfl hd rfl hn hbytes hc hs fun cA kA comp f1 f2 f3 => ?_
  rw [hr.1]
  obtain ⟨g1, g2, g3⟩ := push_facts (H := H) (cell := { cls := cA, slots := Array.replicate n.toNatClampNeg (defaultValue (newarray.typeOf t)), vm := .none })
  rw [hr.1] at g1 g2 g3
  refine kk _ (rl_new hr (Nat.le_trans hB (by rw [← hr.1]; exact hS0.1)) g1 g2 g3 rfl ?_ fun j hj => ?_) ⟨?_, fun x h1 h2 => ?_, hS0.2.2⟩
  · rcases hk with ⟨rfl, rfl⟩ | ⟨rfl, rfl⟩ | ⟨rfl, rfl⟩ <;>
    exact ⟨fun a => absurd a (by decide), fun _ a => absurd a (by decide), fun _ a => absurd a (by decide), fun _ => ⟨by simp, ⟨fun z q => (nomatch q), kA, f2, comp, f3⟩, fun _ => f1, fun _ a => absurd a (by decide)⟩⟩
  · rw [show rl_ix D k j = j from by unfold rl_ix; rcases hk with ⟨-, rfl⟩ | ⟨-, rfl⟩ | ⟨-, rfl⟩ <;> rfl]
    simp only [Array.getElem?_replicate, hj, if_true]
    rcases hk with ⟨rfl, rfl⟩ | ⟨rfl, rfl⟩ | ⟨rfl, rfl⟩ <;> rfl
  · exact Nat.le_trans hS0.1 (by rw [g2, hr.1]; exact Nat.le_succ _)
  · exact (g3 x (by rw [← hr.1]; exact Nat.lt_of_lt_of_le h1 hS0.1)).trans (hS0.2.1 x h1 h2)
def ek_aa (own : String) (ix k : Nat) : Prop := (k = kO ∨ k = kS ∨ k = kC) ∧ Cond.classLink own ix (ar_co k) ∈ lw_all
theorem sx_anew (hx : p.tables.exec = Jvm.exec) (hb : c.code = cc) {own : String} (hown : s.vm.findClass own = some m.cls) (hts : ∀ w ∈ lw_all, w.before args s = true) (hO : kv_over s) (hr : rl_H D s E.1 h H) (hS0 : va_S (rl_A E.1) s.heap H locs) (hB : E.1 ≤ s.heap.size)
    {ix k : Nat} {n : Int32} (hk : ek_aa own ix k) (hn : ¬ n < 0) (hn2 : n.toNatClampNeg ≤ 1000000) (hc : cells + 1 ≤ R.cells) (hs : slots + n.toNatClampNeg ≤ R.slots) (hd : decode cc pc = .ok (.anewarray ix, 3))
    (kk : ∀ H1 : Heap, rl_H D s E.1 (hp_new h k n.toNatClampNeg (fun _ => .null)) H1 → va_S (rl_A E.1) s.heap H1 locs → W p l e R s m args below meth c H1 locs (cells + 1) (slots + n.toNatClampNeg) Q (F0 m (pc + 3) ls (.ref (hp_top h) :: rest))) : W p l e R s m args below meth c H locs cells slots Q (F0 m pc ls (.int n :: rest)) := by
  obtain ⟨hk, hw⟩ := hk
  have ho : va_AO (ar_co k) s := by rcases hk with rfl | rfl | rfl; exact hO.1; exact hO.2.1; exact hO.2.2
  refine W.anew hx hb hown (hts _ hw) (va_AO.use ho) rfl hd rfl hn (by omega) hc hs fun cA kA comp f1 f2 f3 f4 => ?_
  rw [hr.1]
  obtain ⟨g1, g2, g3⟩ := push_facts (H := H) (cell := { cls := cA, slots := Array.replicate n.toNatClampNeg .null, vm := .none })
  rw [hr.1] at g1 g2 g3
  obtain ⟨kc, hkc, -⟩ := Vm.findClass_spec f4
  refine kk _ (rl_new hr (Nat.le_trans hB (by rw [← hr.1]; exact hS0.1)) g1 g2 g3 rfl ?_ fun j hj => ?_) ⟨?_, fun x h1 h2 => ?_, hS0.2.2⟩
  · rcases hk with rfl | rfl | rfl <;>
    exact ⟨fun a => absurd a (by decide), fun _ a => absurd a (by decide), fun _ a => absurd a (by decide), fun _ => ⟨by simp, ⟨fun z q => (nomatch q), kA, f2, comp, f3⟩, fun _ => f1, fun _ _ => ⟨kA, comp, kc, f2, f3, f4, hkc⟩⟩⟩
  · rw [show rl_ix D k j = j from by unfold rl_ix; rcases hk with rfl | rfl | rfl <;> rfl]
    simp only [Array.getElem?_replicate, hj, if_true]
  · exact Nat.le_trans hS0.1 (by rw [g2, hr.1]; exact Nat.le_succ _)
  · exact (g3 x (by rw [← hr.1]; exact Nat.lt_of_lt_of_le h1 hS0.1)).trans (hS0.2.1 x h1 h2)
end SXD
