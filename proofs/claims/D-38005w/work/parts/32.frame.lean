/-! what the tables say of every instruction -/
def ek_d (M : Nat → MI) (q : MI) (pc : Nat) : Instr → List Nat → Prop
  | .ldc ix, [0, n] => Cond.constant q.1.cls ix (Int32.ofNat n) ∈ lw_all
  | .ldc ix, [1, i] => i = 9 ∧ Cond.classLink q.1.cls ix "[Ljava/lang/Object;" ∈ lw_all
  | .ldc2_w ix, [n] => Cond.constantLong q.1.cls ix (Int64.ofNat n) ∈ lw_all
  | .invokespecial ix, [] => Cond.methodLink q.1.cls ix Lib.objectInit ∈ lw_all
  | .istore j, _ => j < q.2.2.1
  | .istore_n j, _ => (j : Nat) < q.2.2.1
  | .astore j, _ => j < q.2.2.1
  | .astore_n j, _ => (j : Nat) < q.2.2.1
  | .lstore j, _ => j + 1 < q.2.2.1
  | .lstore_n j, _ => (j : Nat) + 1 < q.2.2.1
  | .dstore j, _ => j + 1 < q.2.2.1
  | .iinc j _, _ => j < q.2.2.1
  | .getfield ix, k :: ks => ∀ kd ∈ ks, kd ≠ 0 ∧ ek_fld q.1.cls ix kd k
  | .putfield ix, k :: t :: ks => ∀ kd ∈ ks, ek_put q.1.cls (decide (q.1.name = "<init>")) ix kd k t
  | .getstatic ix, [i] => ∃ z, stL[i]? = some z ∧ Cond.fieldLink q.1.cls ix z.1 z.2.1 z.2.2 ∈ lw_all
  | .checkcast ix, ks => ∃ cn, Cond.classLink q.1.cls ix cn ∈ lw_all ∧ ∀ kd ∈ ks, kd ≠ 0 ∧ kd < 60 ∧ (kd_nm kd = cn ∧ kd < 50 ∨ Cond.castable (kd_nm kd) cn ∈ lw_tbl)
  | .instanceof ix, n :: ks => ∃ cn, Cond.classLink q.1.cls ix cn ∈ lw_all ∧ (∀ kd ∈ ks.take n, kd ≠ 0 ∧ kd < 50 ∧ kd_nm kd = cn) ∧ ∀ kd ∈ ks.drop n, kd ≠ 0 ∧ kd < 50 ∧ (kd_nm kd, cn) ∈ ncL
  | .invokevirtual ix, [i] => i = 9 ∧ ek_gc q.1.cls ix
  | .aastore, ks => ∀ a b, rn_pair ks a b = true → ek_as a b ∧ (a = kO → 9 ≤ b ∧ b ≤ 19)
  | .invokestatic ix, [_] => ek_ac q.1.cls ix
  | .new ix, [ci] => ci < 49 ∧ ∃ z, clL[ci]? = some z ∧ Cond.classLink q.1.cls ix z.1 ∈ lw_all
  | .newarray t, [k] => ek_na t k
  | .anewarray ix, [k] => ek_aa q.1.cls ix k
  | .multianewarray ix dm, [k1, k2] => ek_mu q.1.cls ix dm k1 k2
  | .invokedynamic _, _ => False
  | .invokestatic ix, [n, mj] => ek_cs q.1.cls ix n (M mj)
  | .invokespecial ix, [n, mj] => ek_ci q.1.cls ix n (M mj)
  | .invokevirtual ix, n :: z :: ps => ∀ kd mj, rn_sel (z :: ps) kd = some mj → ek_cv q.1.cls ix n kd (M mj)
  | .invokeinterface ix _, n :: ps => ∀ kd mj, rn_sel ps kd = some mj → ek_cf q.1.cls ix n kd (M mj)
  | .new _, [_, x] => q.2.2.2.2 = [] ∧ ek_thr q.1.cls q.2.1 pc x
  | _, _ => True
def ek_ok (M : Nat → MI) (mi pc : Nat) (e : Ent) : Prop :=
  decode (M mi).2.1 pc = .ok (e.1, e.2.1) ∧ (e.2.1 = rn_len e.1 ∨ ∃ a b c d, e.1 = .tableswitch a b c d) ∧ ek_d M (M mi) pc e.1 e.2.2 ∧ ek_br pc e.1 e.2.2 ∧ ek_rt (M mi).2.2.2.1 e.1 e.2.2
/-- the abstract heap is in order -/
def hp_ok (h : Hp) : Prop := hp_wf h ∧ ∀ y, hp_kd h y ≠ 0 → y < hp_top h
/-- words of the tables that are the same for all methods -/
def gl_ok : Prop := cl_ok ∧ ob_ok ∧ Cond.instanceMethod Lib.objectInit ∈ lw_all ∧ Cond.code Lib.objectInit ⟨#[0xb1]⟩ 1 none ∈ lw_all
/-- a frame of the method q -/
def fx (D : va_G) (E : Env0) (q : MI) (p : Program) (s : State) (m : MethodId) (args : Array Value) (meth : Method) (c : Code) : Prop :=
  p.tables.exec = Jvm.exec ∧ c.code = q.2.1 ∧ c.maxLocals = q.2.2.1 ∧ meth.sig.returnType = q.2.2.2.1 ∧ meth.locks = false ∧ s.vm.findClass q.1.cls = some m.cls ∧ (∀ w ∈ lw_all, w.before args s = true) ∧ (q.1.name = "<init>" → meth.name = "<init>") ∧ c.exceptionTable.toList = tableOf q.2.2.2.2 ∧ kv_ok D E s s.heap ∧ E.1 ≤ s.heap.size
def fr_ok (l : Launch) (D : va_G) (E : Env0) (q : MI) (d pc : Nat) (lo : Lo) (st : List Value) (h : Hp) (r : Rs × Hp) : Prop :=
  ∀ (p : Program) (e : Env) (s : State) (m : MethodId) (args : Array Value) (below : List Frame) (meth : Method) (c : Code) (H : Heap) (locs : List Loc) (cells slots mc ms : Nat) (ls : Array Slot), fx D E q p s m args meth c → rl_H D s E.1 h H → va_S (rl_A E.1) s.heap H locs → lv_has ls q.2.2.1 lo →
    cells + (hp_top r.2 - hp_top h) ≤ mc → slots + (hp_use r.2 - hp_use h) ≤ ms → W p l e (cx_room d mc ms) s m args below meth c H locs cells slots (vx_MQ below (cx_Q D E r) (cx_X D E r) args s mc ms (rl_A E.1)) (F0 m pc ls st)
theorem lg_sum : ∀ vs : List Value, (lg_sl vs).length = (vs.map fun v => v.category).sum
  | [] => rfl
  | v :: vs => by
    have ih := lg_sum vs
    unfold lg_sl at ih ⊢
    rw [List.flatMap_cons, List.length_append, ih, List.map_cons, List.sum_cons]
    rcases lv_cat v with z | z
    · rw [if_neg (by omega), z]; rfl
    · rw [if_pos z, z]; rfl
/-- a method's contract out of its first frame -/
theorem fr_M {l : Launch} {D : va_G} {E : Env0} {q : MI} {d : Nat} {as : List Value} {h : Hp} {r : Rs × Hp} (hok : mi_ok q) (hcap : (as.map fun v => v.category).sum ≤ q.2.2.1) (hf : fr_ok l D E q d 0 (lv_args 0 as) [] h r) : cx_M l D E q d as h r := by
  obtain ⟨o1, o2, o3, o4, o5⟩ := hok
  unfold cx_M
  by_cases hp : q.2.2.2.2 = []
  · have hw : mi_ws q = Cond.code q.1 q.2.1 q.2.2.1 q.2.2.2.1 :: lw_all := mi_plw hp
    refine vx_ofW (cc := q.2.1) (maxL := q.2.2.1) (ret := q.2.2.2.1) o4 hw ?_
    intro p e s m args below meth c s₁ B hml htab hv
    obtain ⟨rfl, hK, hr, hB⟩ := hv
    have hts0 := atoms_spec (ws := mi_ws q) B.pre
    have hts : ∀ w ∈ lw_all, w.before as.toArray s = true := fun w hw' => hts0 w (by rw [hw]; exact List.mem_cons_of_mem _ hw')
    rw [lg_entry_eq]
    refine hf p e s m _ below meth c s.heap [] 0 0 _ _ _ ⟨B.exec, B.bytes, hml, B.returns, B.notSynchronized, findClass_of_methodNamed B.named, hts, fun hn => ((name_of_methodNamed B.named B.method).1).trans hn, ?_, hK, hB⟩ hr va_S.rf (lv_entry as (by rw [lg_sum]; exact hcap)) (by omega) (by omega)
    rw [hp]
    cases ht : c.exceptionTable.toList with
    | nil => rfl
    | cons z zs => exact (htab z (by rw [ht]; exact List.mem_cons_self)).elim
  · have hw : mi_ws q = Cond.codeWith q.1 q.2.1 q.2.2.1 q.2.2.2.1 q.2.2.2.2 :: lw_all := by
      unfold mi_ws
      split
      · next e => exact absurd e hp
      · rfl
    refine vx_ofWH (cc := q.2.1) (maxL := q.2.2.1) (ret := q.2.2.2.1) (hh := q.2.2.2.2) o4 hw ?_
    intro p e s m args below meth c s₁ B hml hv
    obtain ⟨rfl, hK, hr, hB⟩ := hv
    have hts0 := atoms_spec (ws := mi_ws q) B.pre
    have hts : ∀ w ∈ lw_all, w.before as.toArray s = true := fun w hw' => hts0 w (by rw [hw]; exact List.mem_cons_of_mem _ hw')
    rw [lg_entry_eq]
    exact hf p e s m _ below meth c s.heap [] 0 0 _ _ _ ⟨B.exec, B.bytes, hml, B.returns, B.notSynchronized, findClass_of_methodNamed B.named, hts, fun hn => ((name_of_methodNamed B.named B.method).1).trans hn, vx_table (x := q.1) B (hts0 _ (by rw [hw]; exact List.mem_cons_self)), hK, hB⟩ hr va_S.rf (lv_entry as (by rw [lg_sum]; exact hcap)) (by omega) (by omega)
