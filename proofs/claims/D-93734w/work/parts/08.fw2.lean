/-! THE SYSTEM'S CLASSES AND ARRAY CLASSES, what a method is told of its world, contracts that read (cR) and that change (cM), their calls -/
set_option maxRecDepth 100000
def gcl : List vw_C := [(RX1, TX1, 21), (RX2, TX2, 13), (RX3, TX3, 2), (RX4, TX4, 1), (RX5, TX5, 4), (RX6, TX6, 4), (RX7, TX7, 4), (RX8, TX8, 4), (RX9, TX9, 4), (RX10, TX10, 4), (RX11, TX11, 4), (RX12, TX12, 52), (RX13, TX13, 7), (RX14, TX14, 8), (RX15, TX15, 7)]
def gtys (ty : Nat → ClassId) : List (ClassId × FieldType) := [(ty 0, .int), (ty 1, .boolean), (ty 2, .byte), (ty 3, .short), (ty 4, .long), (ty 5, .object "DownRope$Move"), (ty 6, .object "DownRope$Shelf")]
/-- the links of nest mates, by their places in the tables -/
def nwl : List (String × Nat × MethodName × String) := [("DownRope$Reader", 48, ⟨"DownRope", "isIn", "(III)Z"⟩, "DownRope"), ("DownRope$Climb", 36, ⟨"DownRope", "bits", "(I)I"⟩, "DownRope"), ("DownRope$Doubled", 52, ⟨"DownRope", "bits", "(I)I"⟩, "DownRope"), ("DownRope$Let", 27, ⟨"DownRope", "bits", "(I)I"⟩, "DownRope"), ("DownRope$Single", 45, ⟨"DownRope", "bits", "(I)I"⟩, "DownRope"), ("DownRope", 305, ⟨"DownRope$Spot", "<init>", "()V"⟩, "DownRope"), ("DownRope", 358, ⟨"DownRope$Face", "<init>", "()V"⟩, "DownRope"), ("DownRope$Face", 37, ⟨"DownRope$Spot", "<init>", "()V"⟩, "DownRope"), ("DownRope", 359, ⟨"DownRope$Shelf", "<init>", "()V"⟩, "DownRope"), ("DownRope", 22, ⟨"DownRope$Move", "<init>", "()V"⟩, "DownRope"), ("DownRope", 28, ⟨"DownRope$Doubled", "<init>", "()V"⟩, "DownRope"), ("DownRope$Doubled", 3, ⟨"DownRope$Move", "<init>", "()V"⟩, "DownRope"), ("DownRope", 31, ⟨"DownRope$Single", "<init>", "()V"⟩, "DownRope"), ("DownRope$Single", 3, ⟨"DownRope$Move", "<init>", "()V"⟩, "DownRope"), ("DownRope", 34, ⟨"DownRope$Joined", "<init>", "()V"⟩, "DownRope"), ("DownRope$Joined", 3, ⟨"DownRope$Doubled", "<init>", "()V"⟩, "DownRope"), ("DownRope", 37, ⟨"DownRope$Let", "<init>", "()V"⟩, "DownRope"), ("DownRope$Let", 3, ⟨"DownRope$Move", "<init>", "()V"⟩, "DownRope"), ("DownRope", 40, ⟨"DownRope$Climb", "<init>", "()V"⟩, "DownRope"), ("DownRope$Climb", 3, ⟨"DownRope$Move", "<init>", "()V"⟩, "DownRope"), ("DownRope", 43, ⟨"DownRope$Throw", "<init>", "()V"⟩, "DownRope"), ("DownRope$Throw", 3, ⟨"DownRope$Move", "<init>", "()V"⟩, "DownRope")]
def cal : List (String × String) := [("DownRope$Broken", "DownRope$Broken"), ("java/lang/NegativeArraySizeException", "java/lang/NegativeArraySizeException"), ("java/lang/ClassCastException", "java/lang/ClassCastException"), ("java/lang/ArrayIndexOutOfBoundsException", "java/lang/ArrayIndexOutOfBoundsException"), ("java/lang/NullPointerException", "java/lang/NullPointerException"), ("java/lang/RuntimeException", "java/lang/Throwable"), ("DownRope$Tossed", "DownRope$Tossed"), ("java/lang/IllegalArgumentException", "java/lang/IllegalArgumentException"), ("java/lang/IllegalStateException", "java/lang/IllegalStateException"), ("java/lang/ArrayIndexOutOfBoundsException", "java/lang/IndexOutOfBoundsException"), ("DownRope$Climb", "DownRope$Move"), ("DownRope$Doubled", "DownRope$Move"), ("DownRope$Joined", "DownRope$Move"), ("DownRope$Let", "DownRope$Move"), ("DownRope$Single", "DownRope$Move"), ("DownRope$Throw", "DownRope$Move")]
def aol : List String := ["DownRope$Move", "DownRope$Shelf"]
/-- the words of the tables that don't ride in the lists -/
def xw (U : State) : Prop := (∀ q ∈ nwl, va_Nw (.methodLinkNest q.1 q.2.1 q.2.2.1 q.2.2.2) U) ∧ (∀ q ∈ cal, va_Nw (.castable q.1 q.2) U) ∧ ∀ C ∈ aol, va_AO C U
theorem xw.warm {s U : State} (h : xw s) (hW : s.WarmedH U.vm) : xw U := ⟨fun q hq => va_Nw.warmM hW (h.1 q hq), fun q hq => va_Nw.warmC hW (h.2.1 q hq), fun C hC => va_AO.moved hW.alike (h.2.2 C hC)⟩
theorem xw.same {u U : State} (h : xw u) (hv : u.vm = U.vm) : xw U := ⟨fun q hq => va_Nw.same rfl hv (h.1 q hq), fun q hq => va_Nw.same rfl hv (h.2.1 q hq), fun C hC => va_AO.moved (by rw [hv]; exact Vm.Alike.refl _) (h.2.2 C hC)⟩
theorem xw.nest {U : State} (h : xw U) (i : Nat) {a : String} {k : Nat} {y : MethodName} {o : String} (hi : nwl[i]? = some (a, k, y, o)) : va_Nw (.methodLinkNest a k y o) U := h.1 _ (List.mem_of_getElem? hi)
theorem xw.cast {U : State} (h : xw U) (i : Nat) {a b : String} (hi : cal[i]? = some (a, b)) : va_Nw (.castable a b) U := h.2.1 _ (List.mem_of_getElem? hi)
/-- a method's world: its cells, the classes, the words -/
def wo (G : va_G) (ty : Nat → ClassId) (ws : va_W) (U : State) : Prop := va_P G gcl ws U.heap ∧ va_K G gcl (gtys ty) U ∧ va_D (fun _ => True) ws ∧ xw U
theorem wo.blind {G : va_G} {ty : Nat → ClassId} {ws : va_W} {U : State} (h : wo G ty ws U) (g : JFrame) (mk : MethodId) (a : Array Value) : wo G ty ws (U.calling g mk a) := ⟨h.1, va_K.moved (u := U) (U := U.calling g mk a) (Vm.Alike.refl U.vm) h.2.1, h.2.2.1, h.2.2.2.same rfl⟩
theorem wo.at {G : va_G} {ty : Nat → ClassId} {ws : va_W} {s U : State} {H : Heap} {A : Nat → Prop} (hK : va_K G gcl (gtys ty) s) (hP : va_P G gcl ws H) (hD : va_D A ws) (hX : xw s) (hU : U.heap = H) (hW : s.WarmedH U.vm) : wo G ty ws U := ⟨by rw [hU]; exact hP, va_K.moved hW.alike hK, hD.weaken (fun _ _ _ _ => trivial), hX.warm hW⟩
abbrev rm4 (a b c d : Nat) : Room := { frames := a, cells := b, slots := c, locals := d }
def Qr (post : Option Value → Prop) : Array Value → State → Outcome → State → Prop := fun _ st o t => (∃ v : Option Value, o = .returned v ∧ post v) ∧ t.heap = st.heap
def Qm (G : va_G) (A : Nat → Prop) (post : Option Value → va_W → Prop) : Array Value → State → Outcome → State → Prop := fun _ st o t => (∃ (v : Option Value) (ws' : va_W), o = .returned v ∧ post v ws' ∧ va_P G gcl ws' t.heap ∧ va_D A ws') ∧ va_F A st t
/-- a contract of a method that writes nothing -/
def cR (l : Launch) (y : MethodName) (wl : List Cond) (rm : Room) (G : va_G) (ty : Nat → ClassId) (ws : va_W) (av : List Value) (post : Option Value → Prop) : Prop := Met l y wl rm (va_Pc av (wo G ty ws)) (Qr post) 0 0 (fun _ => False)
/-- a contract of a method that turns its world into another -/
def cM (l : Launch) (y : MethodName) (wl : List Cond) (rm : Room) (G : va_G) (ty : Nat → ClassId) (ws : va_W) (av : List Value) (mc ms : Nat) (post : Option Value → va_W → Prop) : Prop := ∀ sz : Nat, Met l y wl rm (va_Pc av (fun U => U.heap.size = sz ∧ wo G ty ws U)) (Qm G (va_A ws sz) post) mc ms (va_A ws sz)
theorem cR.of {l : Launch} {y : MethodName} {cc : ByteArray} {maxL : Nat} {ret : Option FieldType} {rm : Room} {G : va_G} {ty : Nat → ClassId} {ws : va_W} {av : List Value} {post : Option Value → Prop} (hy : plainName y.cls = true) (hlen : (lg_sl av).length ≤ maxL)
    (body : ∀ (p : Program) (e : Env) (s : State) (m : MethodId) (args : Array Value) (below : List Frame) (meth : Method) (c : Code) (Q : State → Prop), Q = MQ below (Qr post) args s 0 0 (fun _ => False) → p.tables.exec = Jvm.exec → c.code = cc → meth.sig.returnType = ret → c.maxLocals = maxL → s.vm.findClass y.cls = some m.cls → meth.locks = false → (∀ w ∈ lw_all, w.before args s = true) → va_K G gcl (gtys ty) s → va_P G gcl ws s.heap → va_D (fun _ => True) ws → xw s →
      ∀ ls : Array Slot, lv_has ls maxL (lv_args 0 av) → W p l e rm s m args below meth c s.heap [] 0 0 Q (F0 m 0 ls [])) : cR l y (ws_ y cc maxL ret) rm G ty ws av post := by
  refine Met.ofW (cc := cc) (maxL := maxL) (ret := ret) hy rfl ?_
  intro p e s m args below meth c s₁ B hml hv
  obtain ⟨rfl, hP, hK, hD, hX⟩ := hv
  have hts := atoms_spec (ws := ws_ y cc maxL ret) B.pre
  rw [lg_entry_eq]
  exact body p e s m _ below meth c _ rfl B.exec B.bytes B.returns hml (findClass_of_methodNamed B.named) B.notSynchronized (fun w h => hts w (List.mem_cons_of_mem _ h)) hK hP hD hX _ (lv_entry av hlen)
theorem cM.of {l : Launch} {y : MethodName} {cc : ByteArray} {maxL : Nat} {ret : Option FieldType} {rm : Room} {G : va_G} {ty : Nat → ClassId} {ws : va_W} {av : List Value} {mc ms : Nat} {post : Option Value → va_W → Prop} (hy : plainName y.cls = true) (hlen : (lg_sl av).length ≤ maxL)
    (body : ∀ (p : Program) (e : Env) (s : State) (m : MethodId) (args : Array Value) (below : List Frame) (meth : Method) (c : Code) (A : Nat → Prop) (Q : State → Prop) (H : Heap) (locs : List Loc), Q = MQ below (Qm G A post) args s mc ms A → p.tables.exec = Jvm.exec → c.code = cc → meth.sig.returnType = ret → c.maxLocals = maxL → s.vm.findClass y.cls = some m.cls → meth.locks = false → meth.name = y.name → (∀ w ∈ lw_all, w.before args s = true) → va_K G gcl (gtys ty) s → va_P G gcl ws H → va_D A ws → va_S A s.heap H locs → (∀ q : Nat, s.heap.size ≤ q → A q) → xw s →
      ∀ ls : Array Slot, lv_has ls maxL (lv_args 0 av) → W p l e rm s m args below meth c H locs 0 0 Q (F0 m 0 ls [])) : cM l y (ws_ y cc maxL ret) rm G ty ws av mc ms post := by
  intro sz
  refine Met.ofW (cc := cc) (maxL := maxL) (ret := ret) hy rfl ?_
  intro p e s m args below meth c s₁ B hml hv
  obtain ⟨rfl, hsz, hP, hK, hD, hX⟩ := hv
  subst hsz
  have hts := atoms_spec (ws := ws_ y cc maxL ret) B.pre
  rw [lg_entry_eq]
  exact body p e s m _ below meth c (va_A ws s.heap.size) _ _ _ rfl B.exec B.bytes B.returns hml (findClass_of_methodNamed B.named) B.notSynchronized (name_of_methodNamed B.named B.method).1 (fun w h => hts w (List.mem_cons_of_mem _ h)) hK hP hD.self va_S.rf (fun q h => Or.inr h) hX _ (lv_entry av hlen)
section CK
variable {p : Program} {l : Launch} {e : Env} {R : Room} {s : State} {m : MethodId} {args : Array Value} {below : List Frame} {meth : Method} {c : Code} {H : Heap} {locs : List Loc} {cells slots : Nat} {Q : State → Prop}
variable {cc : ByteArray} {pc : Nat} {ls : Array Slot} {rest st0 : List Value} {G : va_G} {ty : Nat → ClassId} {ws : va_W} {A : Nat → Prop} {a : Array Value} {mc ms : Nat} {H0 : Heap}
/-- behind the call of a method that writes nothing -/
theorem kR {post : Option Value → Prop} (hr : va_Run p l e R s m args below meth c H locs cells slots 0 0 (F0 m pc ls st0) rest (Qr post a) (fun _ => False))
    (kk : ∀ v : Option Value, post v → W p l e R s m args below meth c H locs cells slots Q (F0 m (pc + 3) ls (v.toList ++ rest))) : W p l e R s m args below meth c H locs cells slots Q (F0 m pc ls st0) := by
  intro T hT X
  obtain ⟨v, st₀, t, T', L, h0, X', hL, e1, -, ⟨⟨w, hv, hp⟩, hh⟩, st⟩ := hr T hT X
  cases hv
  obtain ⟨t2, a1, b1⟩ := kk v hp T' (by rw [e1, hh, h0]) (Stand.forget X' (fun q h => (hL q h).elim))
  exact ⟨t2, st t2 a1, b1⟩
/-- behind the call of a method that turns the world into another -/
theorem kM {post : Option Value → va_W → Prop} (hr : va_Run p l e R s m args below meth c H locs cells slots mc ms (F0 m pc ls st0) rest (Qm G (va_A ws H.size) post a) (va_A ws H.size)) (hD : va_D A ws) (hS : va_S A H0 H locs) (hA : ∀ q : Nat, H0.size ≤ q → A q)
    (kk : ∀ (v : Option Value) (ws' : va_W) (H1 : Heap) (locs1 : List Loc), post v ws' → va_P G gcl ws' H1 → va_D A ws' → va_S A H0 H1 locs1 → W p l e R s m args below meth c H1 locs1 (cells + mc) (slots + ms) Q (F0 m (pc + 3) ls (v.toList ++ rest))) : W p l e R s m args below meth c H locs cells slots Q (F0 m pc ls st0) := by
  have hsub : ∀ q, va_A ws H.size q → A q := fun q h => by
    rcases h with ⟨k, x, h⟩ | h
    · exact hD.2 k _ h
    · exact hA q (Nat.le_trans hS.1 h)
  intro T hT X
  obtain ⟨v, st₀, t, T', L, h0, X', hL, e1, e2, ⟨⟨w, W', hv, hp, hP1, hD1⟩, hz, hk⟩, st⟩ := hr T hT X
  cases hv
  rw [h0] at hz hk
  obtain ⟨t2, a1, b1⟩ := kk v W' T'.heap (locs ++ L) hp (by rw [e1]; exact hP1) (hD1.weaken (fun k q _ h => hsub q.1 h))
    ⟨Nat.le_trans hS.1 (by rw [e1]; exact hz), fun q h1 h2 => by rw [e1, hk q (Nat.lt_of_lt_of_le h1 hS.1) (fun z => h2 (hsub q z))]; exact hS.2.1 q h1 h2, fun q hq => by
      rcases List.mem_append.mp hq with h | h
      · exact hS.2.2 q h
      · exact hsub _ (hL q h)⟩ T' rfl X'
  exact ⟨t2, st t2 a1, b1⟩
theorem pvR {b : Addr} {As : List Value} (hK : va_K G gcl (gtys ty) s) (hP : va_P G gcl ws H) (hD : va_D A ws) (hX : xw s) (q0 : Nat) {ci : Nat} {r : vw_C} {fs : List Value} (he : ws[q0]? = some (b, .inr (ci, fs))) (hc : gcl[ci]? = some r) : PreV s H r.1 b (va_Pc (.ref b :: As) (wo G ty ws)) As :=
  ⟨fun _ _ g mk q => ⟨q.1, q.2.blind g mk _⟩, va_recv hK hP hc he, fun _ hU hW => ⟨rfl, wo.at hK hP hD hX hU hW⟩⟩
theorem pvM {b : Addr} {As : List Value} (hK : va_K G gcl (gtys ty) s) (hP : va_P G gcl ws H) (hD : va_D A ws) (hX : xw s) (q0 : Nat) {ci : Nat} {r : vw_C} {fs : List Value} (he : ws[q0]? = some (b, .inr (ci, fs))) (hc : gcl[ci]? = some r) : PreV s H r.1 b (va_Pc (.ref b :: As) (fun U => U.heap.size = H.size ∧ wo G ty ws U)) As :=
  ⟨fun _ _ g mk q => ⟨q.1, q.2.1, q.2.2.blind g mk _⟩, va_recv hK hP hc he, fun _ hU hW => ⟨rfl, by rw [hU], wo.at hK hP hD hX hU hW⟩⟩
theorem psR {As : List Value} (hK : va_K G gcl (gtys ty) s) (hP : va_P G gcl ws H) (hD : va_D A ws) (hX : xw s) : PreS s H (va_Pc As (wo G ty ws)) As :=
  ⟨fun _ _ g mk q => ⟨q.1, q.2.blind g mk _⟩, fun _ hU hW => ⟨rfl, wo.at hK hP hD hX hU hW⟩⟩
theorem psM {As : List Value} (hK : va_K G gcl (gtys ty) s) (hP : va_P G gcl ws H) (hD : va_D A ws) (hX : xw s) : PreS s H (va_Pc As (fun U => U.heap.size = H.size ∧ wo G ty ws U)) As :=
  ⟨fun _ _ g mk q => ⟨q.1, q.2.1, q.2.2.blind g mk _⟩, fun _ hU hW => ⟨rfl, by rw [hU], wo.at hK hP hD hX hU hW⟩⟩
-- ends
theorem eRi {post : Option Value → Prop} {v : Int32} (hQ : Q = MQ below (Qr post) args s 0 0 (fun _ => False)) (hx : p.tables.exec = Jvm.exec) (hb : c.code = cc) (hr : meth.sig.returnType = some .int) (hlk : meth.locks = false) (d : decode cc pc = .ok (.ireturn, 1)) (hp : post (some (.int v))) : W p l e R s m args below meth c s.heap [] 0 0 Q (F0 m pc ls [.int v]) :=
  hQ ▸ W.iret hx hb hr (fun t ht _ => ⟨⟨_, rfl, hp⟩, ht⟩) (fun q h => by cases h) d hlk
theorem eRz {post : Option Value → Prop} {z : Int} (hQ : Q = MQ below (Qr post) args s 0 0 (fun _ => False)) (hx : p.tables.exec = Jvm.exec) (hb : c.code = cc) (hr : meth.sig.returnType = some .boolean) (hlk : meth.locks = false) (d : decode cc pc = .ok (.ireturn, 1)) (hz : z = 0 ∨ z = 1) (hp : post (some (.int (ii z)))) : W p l e R s m args below meth c s.heap [] 0 0 Q (F0 m pc ls [.int (ii z)]) :=
  hQ ▸ W.zret hx hb hr (nrw_z hz) (fun t ht _ => ⟨⟨_, rfl, hp⟩, ht⟩) (fun q h => by cases h) d hlk
theorem eRl {post : Option Value → Prop} {v : Int64} (hQ : Q = MQ below (Qr post) args s 0 0 (fun _ => False)) (hx : p.tables.exec = Jvm.exec) (hb : c.code = cc) (hr : meth.sig.returnType = some .long) (hlk : meth.locks = false) (d : decode cc pc = .ok (.lreturn, 1)) (hp : post (some (.long v))) : W p l e R s m args below meth c s.heap [] 0 0 Q (F0 m pc ls [.long v]) :=
  hQ ▸ W.lret hx hb hr (fun t ht _ => ⟨⟨_, rfl, hp⟩, ht⟩) (fun q h => by cases h) d hlk
theorem eRv {post : Option Value → Prop} (hQ : Q = MQ below (Qr post) args s 0 0 (fun _ => False)) (hx : p.tables.exec = Jvm.exec) (hb : c.code = cc) (hr : meth.sig.returnType = none) (hlk : meth.locks = false) (d : decode cc pc = .ok (.return_, 1)) (hp : post none) : W p l e R s m args below meth c s.heap [] 0 0 Q (F0 m pc ls []) :=
  hQ ▸ W.vret hx hb hr (fun t ht _ => ⟨⟨_, rfl, hp⟩, ht⟩) (fun q h => by cases h) d hlk
theorem eMi {post : Option Value → va_W → Prop} {v : Int32} (hQ : Q = MQ below (Qm G A post) args s mc ms A) (hx : p.tables.exec = Jvm.exec) (hb : c.code = cc) (hr : meth.sig.returnType = some .int) (hlk : meth.locks = false) (hP : va_P G gcl ws H) (hD : va_D A ws) (hS : va_S A s.heap H locs) (h1 : cells ≤ mc) (h2 : slots ≤ ms) (d : decode cc pc = .ok (.ireturn, 1)) (hp : post (some (.int v)) ws) : W p l e R s m args below meth c H locs cells slots Q (F0 m pc ls [.int v]) :=
  hQ ▸ W.widen h1 h2 (W.iret hx hb hr (fun t ht _ => ⟨⟨_, ws, rfl, hp, by rw [ht]; exact hP, hD⟩, hS.F ht⟩) hS.2.2 d hlk)
theorem eMz {post : Option Value → va_W → Prop} {z : Int} (hQ : Q = MQ below (Qm G A post) args s mc ms A) (hx : p.tables.exec = Jvm.exec) (hb : c.code = cc) (hr : meth.sig.returnType = some .boolean) (hlk : meth.locks = false) (hP : va_P G gcl ws H) (hD : va_D A ws) (hS : va_S A s.heap H locs) (h1 : cells ≤ mc) (h2 : slots ≤ ms) (d : decode cc pc = .ok (.ireturn, 1)) (hz : z = 0 ∨ z = 1) (hp : post (some (.int (ii z))) ws) : W p l e R s m args below meth c H locs cells slots Q (F0 m pc ls [.int (ii z)]) :=
  hQ ▸ W.widen h1 h2 (W.zret hx hb hr (nrw_z hz) (fun t ht _ => ⟨⟨_, ws, rfl, hp, by rw [ht]; exact hP, hD⟩, hS.F ht⟩) hS.2.2 d hlk)
theorem eMl {post : Option Value → va_W → Prop} {v : Int64} (hQ : Q = MQ below (Qm G A post) args s mc ms A) (hx : p.tables.exec = Jvm.exec) (hb : c.code = cc) (hr : meth.sig.returnType = some .long) (hlk : meth.locks = false) (hP : va_P G gcl ws H) (hD : va_D A ws) (hS : va_S A s.heap H locs) (h1 : cells ≤ mc) (h2 : slots ≤ ms) (d : decode cc pc = .ok (.lreturn, 1)) (hp : post (some (.long v)) ws) : W p l e R s m args below meth c H locs cells slots Q (F0 m pc ls [.long v]) :=
  hQ ▸ W.widen h1 h2 (W.lret hx hb hr (fun t ht _ => ⟨⟨_, ws, rfl, hp, by rw [ht]; exact hP, hD⟩, hS.F ht⟩) hS.2.2 d hlk)
theorem eMv {post : Option Value → va_W → Prop} (hQ : Q = MQ below (Qm G A post) args s mc ms A) (hx : p.tables.exec = Jvm.exec) (hb : c.code = cc) (hr : meth.sig.returnType = none) (hlk : meth.locks = false) (hP : va_P G gcl ws H) (hD : va_D A ws) (hS : va_S A s.heap H locs) (h1 : cells ≤ mc) (h2 : slots ≤ ms) (d : decode cc pc = .ok (.return_, 1)) (hp : post none ws) : W p l e R s m args below meth c H locs cells slots Q (F0 m pc ls []) :=
  hQ ▸ W.widen h1 h2 (W.vret hx hb hr (fun t ht _ => ⟨⟨_, ws, rfl, hp, by rw [ht]; exact hP, hD⟩, hS.F ht⟩) hS.2.2 d hlk)
theorem eMa {post : Option Value → va_W → Prop} {v : Value} {rt : FieldType} (hQ : Q = MQ below (Qm G A post) args s mc ms A) (hx : p.tables.exec = Jvm.exec) (hb : c.code = cc) (hr : meth.sig.returnType = some rt) (hrt : (∃ n, rt = .object n) ∨ ∃ t, rt = .array t) (hv : v = .null ∨ ∃ a, v = .ref a) (hlk : meth.locks = false) (hP : va_P G gcl ws H) (hD : va_D A ws) (hS : va_S A s.heap H locs) (h1 : cells ≤ mc) (h2 : slots ≤ ms) (d : decode cc pc = .ok (.areturn, 1)) (hp : post (some v) ws) : W p l e R s m args below meth c H locs cells slots Q (F0 m pc ls [v]) :=
  hQ ▸ W.widen h1 h2 (W.aret hx hb hr hrt hv (fun t ht _ => ⟨⟨_, ws, rfl, hp, by rw [ht]; exact hP, hD⟩, hS.F ht⟩) hS.2.2 d hlk)
end CK
