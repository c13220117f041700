section SXI
variable {p : Program} {l : Launch} {e : Env} {R : Room} {s : State} {m : MethodId} {args : Array Value} {below : List Frame} {meth : Method} {c : Code} {H : Heap} {locs : List Loc} {cells slots : Nat} {Q : State → Prop}
variable {cc : ByteArray} {pc nL : Nat} {ls : Array Slot} {rest As : List Value} {D : va_G} {E : Env0} {h : Hp} {r : Rs × Hp} {q : MI} {own : String} {ix n d mc0 ms0 : Nat}
/-- a call through an interface: lists alone -/
def ek_cf (own : String) (ix n kd : Nat) (q : MI) : Prop := mi_ok q ∧ mi_pl q ∧ kd = 20 ∧ Cond.instanceMethod q.1 ∈ lw_all ∧
  ∃ x : MethodName, (x = y_lsize ∧ q.1 = y_asize ∨ x = y_lget ∧ q.1 = y_aget ∨ x = y_ctoA ∧ q.1 = y_atoA) ∧ (parseMethodDescriptor x.desc).map (fun d => d.parameters.length) = some n ∧ Cond.methodLink own ix x ∈ lw_all ∧ Cond.selects "java/util/ArrayList" x q.1 ∈ lw_all
theorem sx_cf (hx : p.tables.exec = Jvm.exec) (hb : c.code = cc) (hml : c.maxLocals = nL) (hown : s.vm.findClass own = some m.cls) (hts : ∀ w ∈ lw_all, w.before args s = true) (hK : kv_ok D E s s.heap) (hr : rl_H D s E.1 h H) (hS : va_S (rl_A E.1) s.heap H locs) (hB : E.1 ≤ s.heap.size) (hsz : ls.size = nL)
    {b count : Nat} (hek : ek_cf own ix n (hp_kd h b) q) (hM : cx_M l D E q d (.ref b :: As) h r) (hn : As.length = n) (hW : (rest.map fun v => v.category).sum ≤ 8) (hd : decode cc pc = .ok (.invokeinterface ix count, 5))
    (hf : cells + (hp_top r.2 - hp_top h) ≤ mc0 ∧ slots + (hp_use r.2 - hp_use h) ≤ ms0) :
    vx_Run5 p l e (cx_room (d + 1) mc0 ms0) s m args below meth c H locs cells slots (hp_top r.2 - hp_top h) (hp_use r.2 - hp_use h) (F0 m pc ls (As.reverse ++ .ref b :: rest)) rest (cx_Q D E r (Value.ref b :: As).toArray) (cx_X D E r) (rl_A E.1) := by
  obtain ⟨hok, hp, hk, hin, x, hxy, hlen, hlk, hsel⟩ := hek
  obtain ⟨o1, o2, o3, o4, o5⟩ := id hok
  have hfr : (cx_room d (hp_top r.2 - hp_top h) (hp_use r.2 - hp_use h)).frames + 1 ≤ (cx_room (d + 1) mc0 ms0).frames := by show 8 * d + 16 + 1 ≤ 8 * (d + 1) + 16; omega
  have hlo : 8 + (q.2.2.1 + 11) + (cx_room d (hp_top r.2 - hp_top h) (hp_use r.2 - hp_use h)).locals ≤ (cx_room (d + 1) mc0 ms0).locals := by show 8 + (q.2.2.1 + 11) + (1000 * d + 5000) ≤ 1000 * (d + 1) + 5000; omega
  have hc := mi_plc hok hp
  have hw : Cond.code q.1 q.2.1 q.2.2.1 q.2.2.2.1 ∈ mi_ws q := by rw [mi_plw hp]; exact List.mem_cons_self
  have hrec := rl_recv hK.1 hr (a := b) (by rw [hk]; decide) (by rw [hk]; decide)
  rw [hk] at hrec
  have hFw : va_Fw "java/util/ArrayList" x q.1 s := by
    obtain ⟨f1, f2, f3⟩ := hK.2.2.2.2.2.2.2.1
    rcases hxy with ⟨rfl, e⟩ | ⟨rfl, e⟩ | ⟨rfl, e⟩ <;> rw [e] <;> assumption
  obtain ⟨w1, w2, w3, w4, w5⟩ := hFw
  have hlen' : ∀ sig, parseMethodDescriptor x.desc = some sig → n = sig.parameters.length := fun sig hs => by
    rw [hs] at hlen
    exact (Option.some.inj hlen).symm
  have hxc : x.cls ≠ "java/lang/invoke/MethodHandle" ∧ x.cls ≠ "java/lang/invoke/VarHandle" := by rcases hxy with ⟨rfl, -⟩ | ⟨rfl, -⟩ | ⟨rfl, -⟩ <;> decide
  have hat : ClassAt s "java/util/ArrayList" (D.1 19) := (hK.1 19 _ rfl).2
  exact vx_runF (Ts := lw_all) (C := "java/util/ArrayList") hat ⟨hx, hb, hml, hown, hts⟩ hM ⟨⟨rfl, rfl, hfr, hlo, mi_good hok hts, hw⟩, hts _ hlk, va_any rfl w1, va_any rfl w2, hts _ hsel, hts _ hin, va_any rfl w3, va_any rfl w4, va_any rfl w5, hts _ o2, hts _ hc, hxc, hlen'⟩ ⟨cx_blind, hrec, cx_pre hK hr hS hB (.ref b :: As)⟩ rfl hn hsz rfl (lv_room hW) hd hf
/-- a method's end -/
def ek_rt (rt : Option FieldType) : Instr → List Nat → Prop
  | .return_, _ => rt = none
  | .ireturn, [0] => rt = some .int
  | .ireturn, [1] => rt = some .boolean
  | .lreturn, _ => rt = some .long
  | .dreturn, _ => rt = some .double
  | .areturn, _ => ∃ t, rt = some t ∧ ((∃ n, t = .object n) ∨ ∃ u, t = .array u)
  | _, _ => True
theorem cx_end (hr : rl_H D s E.1 h H) (hS : va_S (rl_A E.1) s.heap H locs) (v : Option Value) : ∀ t : State, t.heap = H → s.WarmedH t.vm → cx_Q D E (.ok v, h) args s (.returned v) t := by
  intro t ht hW
  subst ht
  exact ⟨⟨v, rfl, rfl⟩, rl_H_moved hW.alike hr, hS.F rfl⟩
theorem sx_rt (hx : p.tables.exec = Jvm.exec) (hb : c.code = cc) (hlk : meth.locks = false) {rt : Option FieldType} (hrt : meth.sig.returnType = rt) {i : Instr} {ops : List Nat} {st : List Value} {v : Option Value} (hek : ek_rt rt i ops) (hr : rl_H D s E.1 h H) (hS : va_S (rl_A E.1) s.heap H locs)
    (hh : rn_rt i ops st = some v) (hd : decode cc pc = .ok (i, 1)) {mc ms : Nat} (hc : cells ≤ mc) (hs : slots ≤ ms) : W p l e R s m args below meth c H locs cells slots (vx_MQ below (cx_Q D E (.ok v, h)) (cx_X D E (.ok v, h)) args s mc ms (rl_A E.1)) (F0 m pc ls st) := by
  refine vx_ret ?_
  refine W.widen hc hs ?_
  have he := cx_end (args := args) hr hS v
  unfold rn_rt at hh
  split at hh
  · cases hh
    exact W.vret hx hb (hrt.trans hek) he hS.2.2 hd hlk
  · cases hh
    exact W.iret hx hb (hrt.trans hek) he hS.2.2 hd hlk
  · split at hh
    · next h01 =>
      cases hh
      exact W.zret hx hb (hrt.trans hek) (by rcases h01 with rfl | rfl <;> decide) he hS.2.2 hd hlk
    · cases hh
  · cases hh
    exact W.lret hx hb (hrt.trans hek) he hS.2.2 hd hlk
  · cases hh
    exact W.dret hx hb (hrt.trans hek) he hS.2.2 hd hlk
  · cases hh
    obtain ⟨t, e1, e2⟩ := hek
    exact W.aret hx hb (hrt.trans e1) e2 (Or.inr ⟨_, rfl⟩) he hS.2.2 hd hlk
  · cases hh
    obtain ⟨t, e1, e2⟩ := hek
    exact W.aret hx hb (hrt.trans e1) e2 (Or.inl rfl) he hS.2.2 hd hlk
  · cases hh
/-- a handler: what is thrown is put away, and the run goes on behind that -/
def ek_hd (own : String) (nL : Nat) (bytes : ByteArray) (hs : List (Nat × Nat × Nat × Nat)) (pc x : Nat) (k : Nat × Nat) : Prop :=
  ∃ (pre : List (Nat × Nat × Nat × Nat)) (z : Nat × Nat × Nat × Nat) (suf : List (Nat × Nat × Nat × Nat)) (nm : String) (len : Nat), hs = pre ++ z :: suf ∧
    (∀ y ∈ pre, y.2.2.2 ≠ 0 ∧ ∃ ny : String, Cond.classLink own y.2.2.2 ny ∈ lw_all ∧ (ex_nm x, ny) ∈ ncL) ∧ z.1 ≤ pc ∧ pc < z.2.1 ∧ z.2.2.2 ≠ 0 ∧ Cond.classLink own z.2.2.2 nm ∈ lw_all ∧ Cond.castable (ex_nm x) nm ∈ lw_tbl ∧ k.2 < nL ∧ k.1 = z.2.2.1 + len ∧
    (decode bytes z.2.2.1 = .ok (.astore k.2, 2) ∧ len = 2 ∨ ∃ j : Fin 4, (j : Nat) = k.2 ∧ decode bytes z.2.2.1 = .ok (.astore_n j, 1) ∧ len = 1)
theorem lo_del_has {ls' : Array Slot} {lo : Lo} {j : Nat} {v : Value} (hl : lv_has ls' nL ((j, v) :: lo.filter (fun q => !(q.1 == j) && !(q.1 + 1 == j && q.2.category == 2)))) : lv_has ls' nL (lo_del lo j) :=
  ⟨hl.1, hl.2.1, fun q hq => hl.2.2 q (List.mem_cons_of_mem _ hq)⟩
theorem sx_catch (hx : p.tables.exec = Jvm.exec) (hb : c.code = cc) (hown : s.vm.findClass own = some m.cls) (hts : ∀ w ∈ lw_all, w.before args s = true) (hK : kv_ok D E s s.heap) {hs : List (Nat × Nat × Nat × Nat)} (htab : c.exceptionTable.toList = tableOf hs) {x : Nat} {k : Nat × Nat} (hek : ek_hd own nL cc hs pc x k) {lo : Lo} (hl : lv_has ls nL lo)
    {q0 : Nat} {ce : Cell} (hce : H[q0]? = some ce) (hv : ce.vm = .none) (hcl : s.vm.findClass (ex_nm x) = some ce.cls)
    (kk : ∀ ls' : Array Slot, lv_has ls' nL (lo_del lo k.2) → W p l e R s m args below meth c H locs cells slots Q (F0 m k.1 ls' [])) : vx_W p l e R s m args below meth c H locs cells slots Q (F0 m pc ls rest) q0 := by
  obtain ⟨pre, z, suf, nm, len, e1, e2, e3, e4, e5, e6, e7, e8, e9, e10⟩ := hek
  have hsplit : c.exceptionTable.toList = tableOf pre ++ ⟨z.1, z.2.1, z.2.2.1, z.2.2.2⟩ :: tableOf suf := by
    rw [htab, e1]
    simp [tableOf]
  refine vx_catch (name := nm) hown (tableOf pre) ⟨z.1, z.2.1, z.2.2.1, z.2.2.2⟩ (tableOf suf) hsplit (fun y hy => ?_) ?_ e5 (hts _ e6) (nw_use rfl (hK.2.2.1 _ e7 rfl)) hce hv hcl ?_
  · obtain ⟨y', hy', rfl⟩ := List.mem_map.mp hy
    obtain ⟨g1, ny, g2, g3⟩ := e2 y' hy'
    exact Or.inr ⟨g1, ny, hts _ g2, hK.2.2.2.2.2.1 _ g3⟩
  · simp [covers, e3, e4]
  · show W p l e R s m args below meth c H locs cells slots Q (F0 m z.2.2.1 ls [.ref q0])
    rcases e10 with ⟨g1, g2⟩ | ⟨j, g0, g1, g2⟩
    · subst g2
      exact lv_astore hx hb g1 hl e8 rfl (fun ls' hl' => by rw [← e9]; exact kk ls' (lo_del_has hl'))
    · subst g2
      exact lv_astore_n hx hb g1 g0 hl e8 rfl (fun ls' hl' => by rw [← e9]; exact kk ls' (lo_del_has hl'))
end SXI
