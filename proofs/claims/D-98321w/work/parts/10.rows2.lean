/-! ROWS, some more -/
set_option maxRecDepth 100000
theorem ax_ite {α : Type} {c : Prop} [Decidable c] {A C : Option α} {w : α} (e : (if c then A else C) = some w) : (c ∧ A = some w) ∨ (¬ c ∧ C = some w) := by
  by_cases h : c
  · rw [if_pos h] at e; exact Or.inl ⟨h, e⟩
  · rw [if_neg h] at e; exact Or.inr ⟨h, e⟩
section AXM
variable {l : Launch} {G : ax_G} {X : ax_X} {Q : State → Prop} {h h0 : ax_H} {cc : ByteArray} {nL fr lo pc : Nat} {own : String} {ls : Array Slot} {rest : List Value}
theorem ax_tswIn {x dflt lo' hi off : Int} {offs : Array Int} {len tgt : Nat} (B : ax_BL l G X cc nL own fr lo) (d : decode cc pc = .ok (.tableswitch dflt lo' hi offs, len)) (h1 : ¬ i2 x < lo') (h2 : ¬ hi < i2 x) (ho : offs[(i2 x - lo').toNat]? = some off) (ht : (pc : Int) + off = (tgt : Int)) (k : ax_W G X Q h tgt ls rest) : ax_W G X Q h pc ls (.int (Int32.ofInt x) :: rest) := ax_go (fun _ _ _ _ => lv_tableIn B.2.1.1 B.2.1.2.1 d (by rw [ax_ti]; exact h1) (by rw [ax_ti]; exact h2) (by rw [ax_ti]; exact ho) ht) k
theorem ax_tswOut {x dflt lo' hi : Int} {offs : Array Int} {len tgt : Nat} (B : ax_BL l G X cc nL own fr lo) (d : decode cc pc = .ok (.tableswitch dflt lo' hi offs, len)) (h1 : i2 x < lo' ∨ hi < i2 x) (ht : (pc : Int) + dflt = (tgt : Int)) (k : ax_W G X Q h tgt ls rest) : ax_W G X Q h pc ls (.int (Int32.ofInt x) :: rest) := ax_go (fun _ _ _ _ => lv_tableOut B.2.1.1 B.2.1.2.1 d (by rw [ax_ti]; exact h1) ht) k
theorem ax_zreturnL {v : Int} {w : Int × ax_H} (hv : v = 0 ∨ v = 1) (B : ax_BL l G X cc nL own fr lo) (Z : ax_Z X h0 (some .boolean)) (d : decode cc pc = .ok (.ireturn, 1)) (e : some (v, h) = some w) : ax_W G X (ax_Q G X h0 w.2 (some (.int (Int32.ofInt w.1)))) h pc ls [.int (Int32.ofInt v)] := ax_zreturn B Z d (by rw [if_pos hv]; exact e)
theorem ax_oiR {α : Type} {r : Option Nat} {index : Nat} {A : Option α} {w : α} (B : ax_BL l G X cc nL own fr lo) (h1 : Cond.methodLink own index Lib.objectInit ∈ lw_all) (h2 : Cond.instanceMethod Lib.objectInit ∈ lw_all) (h3 : Cond.code Lib.objectInit ⟨#[0xb1]⟩ 1 none ∈ lw_all) (hz : ls.size = nL) (hrest : (rest.map fun v => v.category).sum + 12 ≤ lo) (hfr : 1 ≤ fr) (d : decode cc pc = .ok (.invokespecial index, 3)) (e : (r.bind fun _ => A) = some w) (k : A = some w → ax_W G X Q h (pc + 3) ls rest) : ax_W G X Q h pc ls (va_rf r :: rest) := by
  cases r with
  | none => cases e
  | some b => exact ax_oi0 B h1 h2 h3 hz hrest hfr d (k e)
theorem ax_iiR {α : Type} {y : MethodName} {bytes : ByteArray} {L n fr1 lo1 index : Nat} {As : List Value} {callee : Option ax_H} {f : ax_H → Option α} {w : α} {r : Option Nat} (B : ax_BL l G X cc nL own fr lo) (hl : Cond.methodLink own index y ∈ lw_all) (hw1 : Cond.instanceMethod y ∈ lw_all) (hw3 : Cond.initialized y.cls ∈ lw_all) (hw4 : Cond.code y bytes L none ∈ lw_all) (hy1 : y.name = "<init>") (hd : y.cls ≠ "java/lang/invoke/MethodHandle" ∧ y.cls ≠ "java/lang/invoke/VarHandle" ∧ (parseMethodDescriptor y.desc).map (fun d => d.parameters.length) = some n) (hR : fr1 + 1 ≤ fr ∧ 8 + (L + 11) + lo1 ≤ lo) (hM : ∀ w1, callee = some w1 → ax_Met l G y bytes L none fr1 lo1 (va_rf r :: As) h w1 none) (hn : As.length = n) (hz : ls.size = nL) (hrest : (rest.map fun v => v.category).sum ≤ 8) (d : decode cc pc = .ok (.invokespecial index, 3)) (e : (r.bind fun _ => callee.bind f) = some w) (k : ∀ w1, f w1 = some w → ax_W G X Q w1 (pc + 3) ls rest) : ax_W G X Q h pc ls (As.reverse ++ va_rf r :: rest) := by
  cases r with
  | none => cases e
  | some b => exact ax_ii B hl hw1 hw3 hw4 hy1 hd hR hM hn hz hrest d e k
theorem ax_iiNR {α : Type} {host : String} {y : MethodName} {bytes : ByteArray} {L n fr1 lo1 index : Nat} {As : List Value} {callee : Option ax_H} {f : ax_H → Option α} {w : α} {r : Option Nat} (B : ax_BL l G X cc nL own fr lo) (hl : Cond.methodLinkNest own index y host ∈ lw_tbl) (hw1 : Cond.instanceMethod y ∈ lw_all) (hw3 : Cond.initialized y.cls ∈ lw_all) (hw4 : Cond.code y bytes L none ∈ lw_all) (hy1 : y.name = "<init>") (hd : y.cls ≠ "java/lang/invoke/MethodHandle" ∧ y.cls ≠ "java/lang/invoke/VarHandle" ∧ (parseMethodDescriptor y.desc).map (fun d => d.parameters.length) = some n) (hR : fr1 + 1 ≤ fr ∧ 8 + (L + 11) + lo1 ≤ lo) (hM : ∀ w1, callee = some w1 → ax_Met l G y bytes L none fr1 lo1 (va_rf r :: As) h w1 none) (hn : As.length = n) (hz : ls.size = nL) (hrest : (rest.map fun v => v.category).sum ≤ 8) (d : decode cc pc = .ok (.invokespecial index, 3)) (e : (r.bind fun _ => callee.bind f) = some w) (k : ∀ w1, f w1 = some w → ax_W G X Q w1 (pc + 3) ls rest) : ax_W G X Q h pc ls (As.reverse ++ va_rf r :: rest) := by
  cases r with
  | none => cases e
  | some b => exact ax_iiN B hl hw1 hw3 hw4 hy1 hd hR hM hn hz hrest d e k
end AXM
theorem ax_catI (x : Int32) : (Value.int x).category = 1 := rfl
theorem ax_catL (x : Int64) : (Value.long x).category = 2 := rfl
