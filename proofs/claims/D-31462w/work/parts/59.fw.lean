/-! the classes and the calls through an interface, by name -/
set_option maxRecDepth 100000
theorem cl_0 : cls[0]? = some (RX1, TX1, 8) := rfl
theorem cl_1 : cls[1]? = some (RX2, TX2, 3) := rfl
theorem cl_2 : cls[2]? = some (RX3, TX3, 17) := rfl
theorem cl_3 : cls[3]? = some (RX4, TX4, 7) := rfl
theorem cl_4 : cls[4]? = some (RX6, TX6, 7) := rfl
theorem cl_5 : cls[5]? = some (RX7, TX7, 4) := rfl
theorem cl_6 : cls[6]? = some (RX11, TX11, 3) := rfl
theorem cl_7 : cls[7]? = some (RX12, TX12, 4) := rfl
theorem cl_8 : cls[8]? = some (RJ2, TJ2, 3) := rfl
theorem cl_9 : cls[9]? = some (RJ6, TJ6, 3) := rfl
theorem cl_10 : cls[10]? = some (RJ8, TJ8, 4) := rfl
theorem cl_11 : cls[11]? = some (RJ9, TJ9, 3) := rfl
theorem cl_12 : cls[12]? = some (RJ15, TJ15, 3) := rfl
theorem cl_13 : cls[13]? = some (RJ24, TJ24, 1) := rfl
theorem cl_14 : cls[14]? = some (RJ25, TJ25, 4) := rfl
theorem cl_15 : cls[15]? = some (RJ28, TJ28, 5) := rfl
theorem cl_16 : cls[16]? = some (RJ33, TJ33, 4) := rfl
theorem cl_17 : cls[17]? = some (RX5, TX5, 6) := rfl
theorem cl_18 : cls[18]? = some (RX10, TX10, 6) := rfl
theorem fwm_0 : (RJ2, (⟨"java/util/List", "size", "()I"⟩ : MethodName), yJ2_size) ∈ fwl := List.mem_of_getElem? (i := 0) rfl
theorem fwm_1 : (RJ2, (⟨"java/util/List", "get", "(I)Ljava/lang/Object;"⟩ : MethodName), yJ2_get) ∈ fwl := List.mem_of_getElem? (i := 1) rfl
theorem fwm_2 : (RJ2, (⟨"java/util/List", "add", "(Ljava/lang/Object;)Z"⟩ : MethodName), yJ2_add) ∈ fwl := List.mem_of_getElem? (i := 2) rfl
theorem fwm_3 : (RJ2, (⟨"java/util/List", "clear", "()V"⟩ : MethodName), yJ2_clear) ∈ fwl := List.mem_of_getElem? (i := 3) rfl
theorem fwm_4 : (RJ2, (⟨"java/util/List", "iterator", "()Ljava/util/Iterator;"⟩ : MethodName), yJ2_iterator) ∈ fwl := List.mem_of_getElem? (i := 4) rfl
theorem fwm_5 : (RJ8, (⟨"java/util/List", "size", "()I"⟩ : MethodName), yJ8_size) ∈ fwl := List.mem_of_getElem? (i := 5) rfl
theorem fwm_6 : (RJ8, (⟨"java/util/List", "get", "(I)Ljava/lang/Object;"⟩ : MethodName), yJ8_get) ∈ fwl := List.mem_of_getElem? (i := 6) rfl
theorem fwm_7 : (RJ8, (⟨"java/util/List", "add", "(Ljava/lang/Object;)Z"⟩ : MethodName), yJ8_add) ∈ fwl := List.mem_of_getElem? (i := 7) rfl
theorem fwm_8 : (RJ8, (⟨"java/util/List", "clear", "()V"⟩ : MethodName), yJ8_clear) ∈ fwl := List.mem_of_getElem? (i := 8) rfl
theorem fwm_9 : (RJ8, (⟨"java/util/List", "iterator", "()Ljava/util/Iterator;"⟩ : MethodName), yJ7_iterator) ∈ fwl := List.mem_of_getElem? (i := 9) rfl
theorem fwm_10 : (RJ25, (⟨"java/util/Iterator", "hasNext", "()Z"⟩ : MethodName), yJ25_hasNext) ∈ fwl := List.mem_of_getElem? (i := 10) rfl
theorem fwm_11 : (RJ25, (⟨"java/util/Iterator", "next", "()Ljava/lang/Object;"⟩ : MethodName), yJ25_next) ∈ fwl := List.mem_of_getElem? (i := 11) rfl
theorem fwm_12 : (RJ28, (⟨"java/util/Iterator", "hasNext", "()Z"⟩ : MethodName), yJ28_hasNext) ∈ fwl := List.mem_of_getElem? (i := 12) rfl
theorem fwm_13 : (RJ28, (⟨"java/util/Iterator", "next", "()Ljava/lang/Object;"⟩ : MethodName), yJ28_next) ∈ fwl := List.mem_of_getElem? (i := 13) rfl
theorem fwm_14 : (RJ33, (⟨"java/util/Iterator", "hasNext", "()Z"⟩ : MethodName), yJ33_hasNext) ∈ fwl := List.mem_of_getElem? (i := 14) rfl
theorem fwm_15 : (RJ33, (⟨"java/util/Iterator", "next", "()Ljava/lang/Object;"⟩ : MethodName), yJ33_next) ∈ fwl := List.mem_of_getElem? (i := 15) rfl
theorem fwm_16 : (RX7, (⟨"java/util/Iterator", "hasNext", "()Z"⟩ : MethodName), yX7_hasNext) ∈ fwl := List.mem_of_getElem? (i := 16) rfl
theorem fwm_17 : (RX7, (⟨"java/util/Iterator", "next", "()Ljava/lang/Object;"⟩ : MethodName), yX7_next) ∈ fwl := List.mem_of_getElem? (i := 17) rfl
theorem KK.fw {Γ : Cx} {s : State} (hK : KK Γ s) {C : String} {x y : MethodName} (h : (C, x, y) ∈ fwl) : va_Fw C x y s := hK.2.2.1 (C, x, y) h
