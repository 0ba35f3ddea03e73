/-! THE TOY CALCULUS, 6: calls and throws (tw_back follows vx_back of kit/laws/EXCEPTIONS.to-paste) -/
section TBACK
variable {l : Launch} {R : Room} {p : Program} {e : Env} {below : List Frame} {s : State} {sargs : Array Value} {len W9 : Nat}
def tPre (Z : ZT) (R : Room) (args : List Value) (G : GH) (mc ms : Nat) : Pt → Array Value → Prop := fun A a => A.cells + mc ≤ R.cells ∧ A.slots + ms ≤ R.slots ∧ a = args.toArray ∧ RelH Z G A.U.heap ∧ (zS Z).WarmedH A.U.vm ∧ Zok Z
def tPost (Z : ZT) (r : TR) (G' : GH) (mc ms : Nat) : Pt → Array Value → Option Value → Pt → Prop := fun A _ v B => OutOf r (.returned v) ∧ RelH Z G' B.U.heap ∧ ∃ L : List Loc, B.locs = A.locs ++ L ∧ (∀ z ∈ L, zz Z ≤ z.base) ∧ B.cells = A.cells + mc ∧ B.slots = A.slots + ms
def tPostX (Z : ZT) (r : TR) (G' : GH) (mc ms : Nat) : Pt → Array Value → Addr → Pt → Prop := fun A _ q B => OutOf r (.threw q) ∧ RelH Z G' B.U.heap ∧ ∃ L : List Loc, B.locs = A.locs ++ L ∧ (∀ z ∈ L, zz Z ≤ z.base) ∧ B.cells = A.cells + mc ∧ B.slots = A.slots + ms
theorem tw_back {Z : ZT} {d : Nat} {y : MI} {args : List Value} {G G' : GH} {r : TR} {mc ms : Nat}
    (hM : MetFree l (mN y) (headSpec [mW y] (tRoom d mc ms)) (fun v U => v = args.toArray ∧ RelH Z G U.heap ∧ (zS Z).WarmedH U.vm ∧ Zok Z) (fun _ _ _ _ _ => True) (tQ Z r G' mc ms))
    (hframes : d + 1 ≤ R.frames) (hlocals : W9 + (mL y + 11) + 96 * d ≤ R.locals)
    (hws : ∀ a' U, s.WarmedH U.vm → (mW y).before a' U = true) (hinit : ∀ a' U, s.WarmedH U.vm → (Cond.initialized (mN y).cls).before a' U = true) :
    vx_Back l R p e below s sargs (mN y) len W9 (tPre Z R args G mc ms) (tPost Z r G' mc ms) (tPostX Z r G' mc ms) := by
  intro m meth c A g ig mk a X hg hsize hdg hW hn hp
  have h1 : (headSpec [mW y] (tRoom d mc ms)).pre.before a A.U = true := atoms_intro fun w hw => by
    rw [List.mem_singleton.mp hw]
    exact hws _ _ X.warmed
  have h2 : (mW y).before a A.U = true := hws _ _ X.warmed
  have h3 : (Cond.initialized (mN y).cls).before a A.U = true := hinit _ _ X.warmed
  have h4 : A.cells + (headSpec [mW y] (tRoom d mc ms)).room.cells ≤ R.cells := hp.1
  have h5 : A.slots + (headSpec [mW y] (tRoom d mc ms)).room.slots ≤ R.slots := hp.2.1
  have hPc : a = args.toArray ∧ RelH Z G (A.U.calling g mk a).heap ∧ (zS Z).WarmedH (A.U.calling g mk a).vm ∧ Zok Z := hp.2.2
  obtain ⟨U, Ls, c0, s0⟩ := A
  dsimp only [Pt.U, Pt.locs, Pt.cells, Pt.slots] at h1 h2 h3 h4 h5 X hn hPc ⊢
  obtain ⟨methY, cY, hmY, hcY, -, hlY, -⟩ := mW_spec hn h2
  obtain ⟨kY, hkY, -⟩ := className_of_methodNamed hn
  have hinitY : kY.init = .initialized := Cond.initialized_spec (findClass_of_methodNamed hn) hkY h3
  have h : At U g.method c below := by rw [hg]; exact X.here
  have hlocals9 : W9 + (mL y + 11) + (headSpec [mW y] (tRoom d mc ms)).room.locals ≤ R.locals := hlocals
  have happ : (headSpec [mW y] (tRoom d mc ms)).appliesLoose (mN y) e.platform (U.calling g mk a) = true :=
    Spec.appliesLoose_calling (g := g) h hdg hn hkY hinitY
      (X.room_calling (g := g) (R' := (headSpec [mW y] (tRoom d mc ms)).room) hsize hmY hcY hframes (by rw [hlY]; omega) h4 h5) h1
  obtain ⟨mid, hmid⟩ := h.above
  have hfr : (U.setTop g).frames = (.java g :: mid) ++ below := by rw [State.frames_setTop' g h.top, hmid]; rfl
  obtain ⟨o, s₂, hsteps, -, hend, hq⟩ := Steps.callFree hM p X.admits X.cas X.clock (acts := []) hfr happ hPc trivial
  have hq' : tQ Z r G' mc ms a (U.calling g mk a) o s₂ := hq
  rw [State.frames_setTop' g h.top] at hend
  obtain ⟨g₀, hg0⟩ := Option.isSome_iff_exists.mp h.top
  obtain ⟨rr, hr⟩ := State.topJava?_eq_some.mp hg0
  have hr' : (({ U with heap := s₂.heap, slotsUsed := s₂.slotsUsed } : State).setVm s₂.vm).frames = .java g₀ :: rr := hr
  obtain ⟨ho, L, hW₂, hsm, hL, hRel⟩ := hq'
  obtain ⟨e2, q2, q3, q4, q5, q6⟩ := id hsm
  have e3 : s₂ = ({ (U.calling g mk a).setFrames s₂.frames with heap := s₂.heap, slotsUsed := s₂.slotsUsed } : State).setVm s₂.vm := by
    have : s₂ = ({ s₂ with vm := (U.calling g mk a).vm } : State).setVm s₂.vm := rfl
    rw [e2] at this
    exact this
  have hW' : U.WarmedH s₂.vm := hW₂
  have hsame : U.sameButNew ({ U with heap := s₂.heap, slotsUsed := s₂.slotsUsed } : State) L mc ms := by
    refine ⟨?_, q2, q3, q4, q5, q6⟩
    obtain ⟨t, ht, -⟩ := State.frames_cons hr
    show ({ U with heap := s₂.heap, slotsUsed := s₂.slotsUsed } : State) = { U.setFrames U.frames with heap := s₂.heap, slotsUsed := s₂.slotsUsed }
    rw [State.setFrames_self ht]
  cases r with
  | inl v =>
    have ho' : o = .returned v := ho
    subst ho'
    obtain ⟨c₂, i₂, len₂, hc₂, hd₂, hf₂⟩ := hend
    have hcc : c₂ = c := by
      have h1 : s₂.code? g.method = U.code? g.method := by
        rw [State.code?_eq, State.code?_eq, hW'.alike.method?]
      exact Option.some.inj (hc₂.symm.trans (h1.trans h.code))
    subst hcc
    have hlen : len₂ = len := by rw [hdg] at hd₂; cases hd₂; rfl
    subst hlen
    have hs₂ : s₂ = (({ U with heap := s₂.heap, slotsUsed := s₂.slotsUsed } : State).setVm s₂.vm).setTop { g with pc := g.pc + len₂, stack := v.toList ++ g.stack } := by
      refine e3.trans ?_
      rw [hf₂, State.calling_eq h.top, State.setFrames_setFrames, State.setTop_of_frames _ hr', hr]
      rfl
    subst hg
    refine Or.inl ⟨v, ⟨(({ U with heap := s₂.heap, slotsUsed := s₂.slotsUsed } : State).setVm s₂.vm), Ls ++ L, c0 + mc, s0 + ms⟩,
      ⟨X.admits, X.cas, X.clock, X.frames, X.room, X.hears, X.method, X.code, (X.here.setHeapUsed s₂.heap s₂.slotsUsed).setVm hW'.alike, X.tail, State.WarmedH.trans X.warmed hW', X.limits, X.bytes, X.same.trans (hsame.setVm s.vm)⟩,
      ⟨rfl, hRel, L, rfl, hL, rfl, rfl⟩, ?_⟩
    show Steps p.tables e below _ ((({ U with heap := s₂.heap, slotsUsed := s₂.slotsUsed } : State).setVm s₂.vm).setTop { g with pc := g.pc + len₂, stack := v.toList ++ g.stack })
    rw [← hs₂]
    exact hsteps
  | inr q =>
    have ho' : o = .threw q := ho
    subst ho'
    have hf₂ : s₂.frames = .throwing q :: .java g :: U.frames.tail := hend
    have hs₂ : s₂ = ((({ U with heap := s₂.heap, slotsUsed := s₂.slotsUsed } : State).setVm s₂.vm).setTop g).pushFrame (.throwing q) := by
      refine e3.trans ?_
      rw [hf₂, State.calling_eq h.top, State.setFrames_setFrames, State.pushFrame, State.frames_setTop _ hr', State.setTop_of_frames _ hr', State.setFrames_setFrames, hr]
      rfl
    subst hg
    refine Or.inr ⟨q, ⟨(({ U with heap := s₂.heap, slotsUsed := s₂.slotsUsed } : State).setVm s₂.vm), Ls ++ L, c0 + mc, s0 + ms⟩,
      ⟨X.admits, X.cas, X.clock, X.frames, X.room, X.hears, X.method, X.code, (X.here.setHeapUsed s₂.heap s₂.slotsUsed).setVm hW'.alike, X.tail, State.WarmedH.trans X.warmed hW', X.limits, X.bytes, X.same.trans (hsame.setVm s.vm)⟩,
      ⟨rfl, hRel, L, rfl, hL, rfl, rfl⟩, ?_⟩
    show Steps p.tables e below _ (((({ U with heap := s₂.heap, slotsUsed := s₂.slotsUsed } : State).setVm s₂.vm).setTop g).pushFrame (.throwing q))
    rw [← hs₂]
    exact hsteps
end TBACK
/-- q is being thrown at pc -/
def TX (Z : ZT) (mi : MI) (d pc : Nat) (lv : List (Option Value)) (q : Nat) (G : GH) (Q : TR → GH → Prop) : Prop :=
  ∃ (r : TR) (G' : GH), Q r G' ∧ (gn G ≤ gn G' ∧ gs G ≤ gs G') ∧
    ∀ p l e R s m args below meth c H locs cells slots mc ms, TB Z mi d G G' p l R s m meth c H locs cells slots mc ms →
      ∀ ls rest, lvh ls (mL mi) lv → vx_W p l e R s m args below meth c H locs cells slots (EQ Z r G' below args s mc ms) (F0 m pc ls rest) q
/-- behind a call -/
def KQ (Z : ZT) (mi : MI) (d pc pc' : Nat) (lv : List (Option Value)) (st : List Value) (Q : TR → GH → Prop) : TR → GH → Prop := fun r G1 => match r with
  | .inl v => TW Z mi d pc' lv (v.toList ++ st) G1 Q
  | .inr q => TX Z mi d pc lv q G1 Q
/-- how a call of y is made at pc: whatever y does, from there the walk goes on -/
def Mech (Z : ZT) (mi : MI) (pc len : Nat) (y : MI) (G : GH) (st rest : List Value) (as : List Value) : Prop :=
  ∀ p l e R s m args below meth c H T locs cells slots ls Pre Post PostX, TCx Z mi p l s m meth c → RelH Z G H → T.heap = H → Stand p l e R s m args below meth c T locs cells slots → ls.size = c.maxLocals →
    vx_Back l R p e below s args (mN y) len 24 Pre Post PostX → (∀ vm₁, s.WarmedH vm₁ → Pre ⟨T.setVm vm₁, locs, cells, slots⟩ as.toArray) →
    (∃ (v : Option Value) (vm₁ : Vm) (B : Pt), s.WarmedH vm₁ ∧ Stand p l e R s m args below meth c B.U B.locs B.cells B.slots ∧ Post ⟨T.setVm vm₁, locs, cells, slots⟩ as.toArray v B ∧
      ∀ target, Steps p.tables e below (B.U.setTop (F0 m (pc + len) ls (v.toList ++ rest))) target → Steps p.tables e below (T.setTop (F0 m pc ls st)) target) ∨
    (∃ (q : Addr) (vm₁ : Vm) (B : Pt), s.WarmedH vm₁ ∧ Stand p l e R s m args below meth c B.U B.locs B.cells B.slots ∧ PostX ⟨T.setVm vm₁, locs, cells, slots⟩ as.toArray q B ∧
      Steps p.tables e below (T.setTop (F0 m pc ls st)) ((B.U.setTop (F0 m pc ls rest)).pushFrame (.throwing q)))
theorem tw_call {Z : ZT} {mi y : MI} {d pc len : Nat} {lv : List (Option Value)} {st rest as : List Value} {G : GH} {Q : TR → GH → Prop} (hw : mW y ∈ lw_all) (hini : Cond.initialized (mN y).cls ∈ lw_all) (hL : mL y ≤ 61)
    (hm : Mech Z mi pc len y G st rest as) (k : TC Z d y as G (KQ Z mi (d + 1) pc (pc + len) lv rest Q)) : TW Z mi (d + 1) pc lv st G Q := by
  obtain ⟨r, G1, hK, hle, hM⟩ := k
  have fin : ∀ (r' : TR) (G' : GH), (gn G1 ≤ gn G' ∧ gs G1 ≤ gs G') →
      (∀ p l e R s m args below meth c H locs cells slots mc ms, TB Z mi (d + 1) G1 G' p l R s m meth c H locs cells slots mc ms → ∀ ls, lvh ls (mL mi) lv →
        (∀ v, r = .inl v → W p l e R s m args below meth c H locs cells slots (EQ Z r' G' below args s mc ms) (F0 m (pc + len) ls (v.toList ++ rest))) ∧
        (∀ q, r = .inr q → vx_W p l e R s m args below meth c H locs cells slots (EQ Z r' G' below args s mc ms) (F0 m pc ls rest) q)) →
      ∀ p l e R s m args below meth c H locs cells slots mc ms, TB Z mi (d + 1) G G' p l R s m meth c H locs cells slots mc ms →
        ∀ ls, lvh ls (mL mi) lv → W p l e R s m args below meth c H locs cells slots (EQ Z r' G' below args s mc ms) (F0 m pc ls st) := by
    intro r' G' hle2 kk p l e R s m args below meth c H locs cells slots mc ms B ls hl
    obtain ⟨C, b2, b3, ⟨b41, b42⟩, b5, b6, b7, b8⟩ := B
    intro T hT X
    have hback := tw_back (l := l) (R := R) (p := p) (e := e) (below := below) (s := s) (sargs := args) (len := len) (W9 := 24) (hM l C.flags) (by omega) (by omega)
      (fun a' U hU => word_at (State.WarmedH.trans C.warm hU) (lw_self _ hw).2 (C.zok.1 _ (lw_all_tbl hw)))
      (fun a' U hU => word_at (State.WarmedH.trans C.warm hU) (lw_self _ hini).2 (C.zok.1 _ (lw_all_tbl hini)))
    rcases hm p l e R s m args below meth c H T locs cells slots ls _ _ _ C b2 hT X (hl.1.trans C.ml.symm) hback (fun vm₁ hW₁ => ⟨show cells + (gn G1 - gn G) ≤ R.cells by omega, show slots + (gs G1 - gs G) ≤ R.slots by omega, rfl, show RelH Z G T.heap by rw [hT]; exact b2, State.WarmedH.trans C.warm hW₁, C.zok⟩) with
      ⟨v, vm₁, ⟨U', l2, c2, s2⟩, hW₁, X', ⟨ho, hRel, L, h1, hL2, h2, h3⟩, st1⟩ | ⟨q, vm₁, ⟨U', l2, c2, s2⟩, hW₁, X', ⟨ho, hRel, L, h1, hL2, h2, h3⟩, st1⟩
    · dsimp only [Pt.U, Pt.locs, Pt.cells, Pt.slots] at X' hRel h1 h2 h3 st1
      subst h1; subst h2; subst h3
      have hr : r = .inl v := by
        cases r with
        | inl v' => have : Outcome.returned v = .returned v' := ho; cases this; rfl
        | inr q' => have : Outcome.returned v = .threw q' := ho; cases this
      obtain ⟨t, a1, b1⟩ := (kk p l e R s m args below meth c U'.heap (locs ++ L) (cells + (gn G1 - gn G)) (slots + (gs G1 - gs G)) mc ms
        ⟨C, hRel, fun z hz => (List.mem_append.mp hz).elim (b3 z) (hL2 z), ⟨b41, b42⟩, by omega, by omega, b7, b8⟩ ls hl).1 v hr U' rfl X'
      exact ⟨t, st1 t a1, b1⟩
    · dsimp only [Pt.U, Pt.locs, Pt.cells, Pt.slots] at X' hRel h1 h2 h3 st1
      subst h1; subst h2; subst h3
      have hr : r = .inr q := by
        cases r with
        | inl v' => have : Outcome.threw q = .returned v' := ho; cases this
        | inr q' => have : Outcome.threw q = .threw q' := ho; cases this; rfl
      obtain ⟨t, a1, b1⟩ := (kk p l e R s m args below meth c U'.heap (locs ++ L) (cells + (gn G1 - gn G)) (slots + (gs G1 - gs G)) mc ms
        ⟨C, hRel, fun z hz => (List.mem_append.mp hz).elim (b3 z) (hL2 z), ⟨b41, b42⟩, by omega, by omega, b7, b8⟩ ls hl).2 q hr U' rfl X'
      exact ⟨t, st1.trans a1, b1⟩
  cases r with
  | inl v =>
    obtain ⟨r', G', hQ, hle2, kk⟩ := hK
    refine ⟨r', G', hQ, ⟨Nat.le_trans hle.1 hle2.1, Nat.le_trans hle.2 hle2.2⟩, fin r' G' hle2 (fun p l e R s m args below meth c H locs cells slots mc ms B ls hl => ⟨fun v' hv => ?_, fun q hq => nomatch hq⟩)⟩
    cases hv
    exact kk p l e R s m args below meth c H locs cells slots mc ms B ls hl
  | inr q =>
    obtain ⟨r', G', hQ, hle2, kk⟩ := hK
    refine ⟨r', G', hQ, ⟨Nat.le_trans hle.1 hle2.1, Nat.le_trans hle.2 hle2.2⟩, fin r' G' hle2 (fun p l e R s m args below meth c H locs cells slots mc ms B ls hl => ⟨fun v hv => (nomatch hv), fun q' hq => ?_⟩)⟩
    cases hq
    exact kk p l e R s m args below meth c H locs cells slots mc ms B ls rest hl
