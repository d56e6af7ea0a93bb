set_option maxRecDepth 100000
/-! more room than a contract asks -/
theorem nd_hr {s : State} {pl : Platform} {r r' : Room} (hf : r.frames ≤ r'.frames) (hl : r.locals ≤ r'.locals) (hc : r.cells = r'.cells) (hs : r.slots = r'.slots) (h : s.hasRoom pl r' = true) : s.hasRoom pl r = true := by
  simp only [State.hasRoom, Bool.and_eq_true, decide_eq_true_eq] at h ⊢
  obtain ⟨⟨⟨⟨a1, a2, a3, a4, a5, a6⟩, a7⟩, a8⟩, a9⟩ := h
  refine ⟨⟨⟨⟨?_, ?_, ?_, ?_, ?_, a6⟩, ?_⟩, ?_⟩, a9⟩ <;> omega
theorem nd_C.room {l : Launch} {w : Wd} {y : MethodName} {cc : ByteArray} {nL : Nat} {ret : Option FieldType} {fr lo fr' lo' : Nat} {as : List AV} {h : Hp} {r : Res} (C : nd_C l w y cc nL ret fr lo as h r) (hf : fr ≤ fr') (hl : lo ≤ lo') : nd_C l w y cc nL ret fr' lo' as h r := by
  intro wf a1
  obtain ⟨c1, c2, c3⟩ := C wf a1
  refine ⟨c1, c2, fun ad0 => ?_⟩
  intro p e ha hcs hk s m args below hfr happ hP hK
  obtain ⟨b1, b2, b3, b4, b5, b6, b7, b8⟩ := (Spec.appliesLoose_iff hfr).mp happ
  exact c3 ad0 p e ha hcs hk s m args below hfr ((Spec.appliesLoose_iff hfr).mpr ⟨b1, b2, b3, b4, b5, b6, nd_hr (r' := { frames := fr', cells := gC r.2 - gC h, slots := gZ r.2 - gZ h, locals := lo' }) hf hl rfl rfl b7, b8⟩) hP hK
