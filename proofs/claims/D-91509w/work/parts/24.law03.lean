set_option maxRecDepth 100000
theorem dL_law_834 : decode cL_law 834 = .ok (.aload_n 1, 1) := by decide +kernel
theorem dL_law_835 : decode cL_law 835 = .ok (.invokevirtual 92, 3) := by decide +kernel
theorem dL_law_838 : decode cL_law 838 = .ok (.aload_n 2, 1) := by decide +kernel
theorem dL_law_839 : decode cL_law 839 = .ok (.invokevirtual 96, 3) := by decide +kernel
theorem dL_law_842 : decode cL_law 842 = .ok (.if_icmp .eq 194, 3) := by decide +kernel
theorem dL_law_845 : decode cL_law 845 = .ok (.iconst 0, 1) := by decide +kernel
theorem dL_law_846 : decode cL_law 846 = .ok (.ireturn, 1) := by decide +kernel
theorem dL_law_847 : decode cL_law 847 = .ok (.aload_n 1, 1) := by decide +kernel
theorem dL_law_848 : decode cL_law 848 = .ok (.aload_n 0, 1) := by decide +kernel
theorem dL_law_849 : decode cL_law 849 = .ok (.iload_n 3, 1) := by decide +kernel
theorem dL_law_850 : decode cL_law 850 = .ok (.iconst 1, 1) := by decide +kernel
theorem dL_law_851 : decode cL_law 851 = .ok (.iadd, 1) := by decide +kernel
theorem dL_law_852 : decode cL_law 852 = .ok (.iaload, 1) := by decide +kernel
theorem dL_law_853 : decode cL_law 853 = .ok (.aload_n 0, 1) := by decide +kernel
theorem dL_law_854 : decode cL_law 854 = .ok (.iload_n 3, 1) := by decide +kernel
theorem dL_law_855 : decode cL_law 855 = .ok (.iconst 2, 1) := by decide +kernel
theorem dL_law_856 : decode cL_law 856 = .ok (.iadd, 1) := by decide +kernel
theorem dL_law_857 : decode cL_law 857 = .ok (.iaload, 1) := by decide +kernel
theorem dL_law_858 : decode cL_law 858 = .ok (.invokevirtual 97, 3) := by decide +kernel
theorem dL_law_861 : decode cL_law 861 = .ok (.aload_n 2, 1) := by decide +kernel
theorem dL_law_862 : decode cL_law 862 = .ok (.aload_n 0, 1) := by decide +kernel
theorem dL_law_863 : decode cL_law 863 = .ok (.iload_n 3, 1) := by decide +kernel
theorem dL_law_864 : decode cL_law 864 = .ok (.iconst 1, 1) := by decide +kernel
theorem dL_law_865 : decode cL_law 865 = .ok (.iadd, 1) := by decide +kernel
theorem dL_law_866 : decode cL_law 866 = .ok (.iaload, 1) := by decide +kernel
theorem dL_law_867 : decode cL_law 867 = .ok (.aload_n 0, 1) := by decide +kernel
theorem dL_law_868 : decode cL_law 868 = .ok (.iload_n 3, 1) := by decide +kernel
theorem dL_law_869 : decode cL_law 869 = .ok (.iconst 2, 1) := by decide +kernel
theorem dL_law_870 : decode cL_law 870 = .ok (.iadd, 1) := by decide +kernel
theorem dL_law_871 : decode cL_law 871 = .ok (.iaload, 1) := by decide +kernel
theorem dL_law_872 : decode cL_law 872 = .ok (.invokevirtual 100, 3) := by decide +kernel
theorem dL_law_875 : decode cL_law 875 = .ok (.if_icmp .eq 161, 3) := by decide +kernel
theorem dL_law_878 : decode cL_law 878 = .ok (.iconst 0, 1) := by decide +kernel
theorem dL_law_879 : decode cL_law 879 = .ok (.ireturn, 1) := by decide +kernel
theorem dL_law_880 : decode cL_law 880 = .ok (.aload_n 1, 1) := by decide +kernel
theorem dL_law_881 : decode cL_law 881 = .ok (.aload_n 0, 1) := by decide +kernel
theorem dL_law_882 : decode cL_law 882 = .ok (.iload_n 3, 1) := by decide +kernel
theorem dL_law_883 : decode cL_law 883 = .ok (.iconst 1, 1) := by decide +kernel
theorem dL_law_884 : decode cL_law 884 = .ok (.iadd, 1) := by decide +kernel
theorem dL_law_885 : decode cL_law 885 = .ok (.iaload, 1) := by decide +kernel
theorem dL_law_886 : decode cL_law 886 = .ok (.aload_n 0, 1) := by decide +kernel
theorem dL_law_887 : decode cL_law 887 = .ok (.iload_n 3, 1) := by decide +kernel
theorem dL_law_888 : decode cL_law 888 = .ok (.iconst 2, 1) := by decide +kernel
theorem dL_law_889 : decode cL_law 889 = .ok (.iadd, 1) := by decide +kernel
theorem dL_law_890 : decode cL_law 890 = .ok (.iaload, 1) := by decide +kernel
theorem dL_law_891 : decode cL_law 891 = .ok (.aload_n 0, 1) := by decide +kernel
theorem dL_law_892 : decode cL_law 892 = .ok (.iload_n 3, 1) := by decide +kernel
theorem dL_law_893 : decode cL_law 893 = .ok (.iconst 3, 1) := by decide +kernel
theorem dL_law_894 : decode cL_law 894 = .ok (.iadd, 1) := by decide +kernel
theorem dL_law_895 : decode cL_law 895 = .ok (.iaload, 1) := by decide +kernel
theorem dL_law_896 : decode cL_law 896 = .ok (.invokevirtual 101, 3) := by decide +kernel
theorem dL_law_899 : decode cL_law 899 = .ok (.aload_n 2, 1) := by decide +kernel
theorem dL_law_900 : decode cL_law 900 = .ok (.aload_n 0, 1) := by decide +kernel
theorem dL_law_901 : decode cL_law 901 = .ok (.iload_n 3, 1) := by decide +kernel
theorem dL_law_902 : decode cL_law 902 = .ok (.iconst 1, 1) := by decide +kernel
theorem dL_law_903 : decode cL_law 903 = .ok (.iadd, 1) := by decide +kernel
theorem dL_law_904 : decode cL_law 904 = .ok (.iaload, 1) := by decide +kernel
theorem dL_law_905 : decode cL_law 905 = .ok (.aload_n 0, 1) := by decide +kernel
theorem dL_law_906 : decode cL_law 906 = .ok (.iload_n 3, 1) := by decide +kernel
theorem dL_law_907 : decode cL_law 907 = .ok (.iconst 2, 1) := by decide +kernel
theorem dL_law_908 : decode cL_law 908 = .ok (.iadd, 1) := by decide +kernel
theorem dL_law_909 : decode cL_law 909 = .ok (.iaload, 1) := by decide +kernel
theorem dL_law_910 : decode cL_law 910 = .ok (.aload_n 0, 1) := by decide +kernel
theorem dL_law_911 : decode cL_law 911 = .ok (.iload_n 3, 1) := by decide +kernel
theorem dL_law_912 : decode cL_law 912 = .ok (.iconst 3, 1) := by decide +kernel
theorem dL_law_913 : decode cL_law 913 = .ok (.iadd, 1) := by decide +kernel
theorem dL_law_914 : decode cL_law 914 = .ok (.iaload, 1) := by decide +kernel
theorem dL_law_915 : decode cL_law 915 = .ok (.invokevirtual 104, 3) := by decide +kernel
theorem dL_law_918 : decode cL_law 918 = .ok (.if_icmp .eq 118, 3) := by decide +kernel
theorem dL_law_921 : decode cL_law 921 = .ok (.iconst 0, 1) := by decide +kernel
theorem dL_law_922 : decode cL_law 922 = .ok (.ireturn, 1) := by decide +kernel
theorem dL_law_923 : decode cL_law 923 = .ok (.aload_n 1, 1) := by decide +kernel
theorem dL_law_924 : decode cL_law 924 = .ok (.aload_n 0, 1) := by decide +kernel
theorem dL_law_925 : decode cL_law 925 = .ok (.iload_n 3, 1) := by decide +kernel
theorem dL_law_926 : decode cL_law 926 = .ok (.iconst 1, 1) := by decide +kernel
theorem dL_law_927 : decode cL_law 927 = .ok (.iadd, 1) := by decide +kernel
theorem dL_law_928 : decode cL_law 928 = .ok (.iaload, 1) := by decide +kernel
theorem dL_law_929 : decode cL_law 929 = .ok (.invokevirtual 105, 3) := by decide +kernel
theorem dL_law_932 : decode cL_law 932 = .ok (.aload_n 2, 1) := by decide +kernel
theorem dL_law_933 : decode cL_law 933 = .ok (.aload_n 0, 1) := by decide +kernel
theorem dL_law_934 : decode cL_law 934 = .ok (.iload_n 3, 1) := by decide +kernel
theorem dL_law_935 : decode cL_law 935 = .ok (.iconst 1, 1) := by decide +kernel
theorem dL_law_936 : decode cL_law 936 = .ok (.iadd, 1) := by decide +kernel
theorem dL_law_937 : decode cL_law 937 = .ok (.iaload, 1) := by decide +kernel
theorem dL_law_938 : decode cL_law 938 = .ok (.invokevirtual 108, 3) := by decide +kernel
theorem dL_law_941 : decode cL_law 941 = .ok (.if_icmp .eq 95, 3) := by decide +kernel
theorem dL_law_944 : decode cL_law 944 = .ok (.iconst 0, 1) := by decide +kernel
theorem dL_law_945 : decode cL_law 945 = .ok (.ireturn, 1) := by decide +kernel
theorem dL_law_946 : decode cL_law 946 = .ok (.aload_n 1, 1) := by decide +kernel
theorem dL_law_947 : decode cL_law 947 = .ok (.aload_n 0, 1) := by decide +kernel
theorem dL_law_948 : decode cL_law 948 = .ok (.iload_n 3, 1) := by decide +kernel
theorem dL_law_949 : decode cL_law 949 = .ok (.iconst 1, 1) := by decide +kernel
theorem dL_law_950 : decode cL_law 950 = .ok (.iadd, 1) := by decide +kernel
theorem dL_law_951 : decode cL_law 951 = .ok (.iaload, 1) := by decide +kernel
theorem dL_law_952 : decode cL_law 952 = .ok (.aload_n 0, 1) := by decide +kernel
theorem dL_law_953 : decode cL_law 953 = .ok (.iload_n 3, 1) := by decide +kernel
theorem dL_law_954 : decode cL_law 954 = .ok (.iconst 2, 1) := by decide +kernel
theorem dL_law_955 : decode cL_law 955 = .ok (.iadd, 1) := by decide +kernel
theorem dL_law_956 : decode cL_law 956 = .ok (.iaload, 1) := by decide +kernel
theorem dL_law_957 : decode cL_law 957 = .ok (.aload_n 0, 1) := by decide +kernel
theorem dL_law_958 : decode cL_law 958 = .ok (.iload_n 3, 1) := by decide +kernel
theorem dL_law_959 : decode cL_law 959 = .ok (.iconst 3, 1) := by decide +kernel
theorem dL_law_960 : decode cL_law 960 = .ok (.iadd, 1) := by decide +kernel
theorem dL_law_961 : decode cL_law 961 = .ok (.iaload, 1) := by decide +kernel
theorem dL_law_962 : decode cL_law 962 = .ok (.invokevirtual 109, 3) := by decide +kernel
theorem dL_law_965 : decode cL_law 965 = .ok (.aload_n 2, 1) := by decide +kernel
theorem dL_law_966 : decode cL_law 966 = .ok (.aload_n 0, 1) := by decide +kernel
theorem dL_law_967 : decode cL_law 967 = .ok (.iload_n 3, 1) := by decide +kernel
theorem dL_law_968 : decode cL_law 968 = .ok (.iconst 1, 1) := by decide +kernel
theorem dL_law_969 : decode cL_law 969 = .ok (.iadd, 1) := by decide +kernel
theorem dL_law_970 : decode cL_law 970 = .ok (.iaload, 1) := by decide +kernel
theorem dL_law_971 : decode cL_law 971 = .ok (.aload_n 0, 1) := by decide +kernel
theorem dL_law_972 : decode cL_law 972 = .ok (.iload_n 3, 1) := by decide +kernel
theorem dL_law_973 : decode cL_law 973 = .ok (.iconst 2, 1) := by decide +kernel
theorem dL_law_974 : decode cL_law 974 = .ok (.iadd, 1) := by decide +kernel
theorem dL_law_975 : decode cL_law 975 = .ok (.iaload, 1) := by decide +kernel
theorem dL_law_976 : decode cL_law 976 = .ok (.aload_n 0, 1) := by decide +kernel
theorem dL_law_977 : decode cL_law 977 = .ok (.iload_n 3, 1) := by decide +kernel
theorem dL_law_978 : decode cL_law 978 = .ok (.iconst 3, 1) := by decide +kernel
theorem dL_law_979 : decode cL_law 979 = .ok (.iadd, 1) := by decide +kernel
theorem dL_law_980 : decode cL_law 980 = .ok (.iaload, 1) := by decide +kernel
theorem dL_law_981 : decode cL_law 981 = .ok (.invokevirtual 112, 3) := by decide +kernel
theorem dL_law_984 : decode cL_law 984 = .ok (.if_icmp .eq 52, 3) := by decide +kernel
theorem dL_law_987 : decode cL_law 987 = .ok (.iconst 0, 1) := by decide +kernel
theorem dL_law_988 : decode cL_law 988 = .ok (.ireturn, 1) := by decide +kernel
theorem dL_law_989 : decode cL_law 989 = .ok (.aload_n 1, 1) := by decide +kernel
theorem dL_law_990 : decode cL_law 990 = .ok (.aload_n 0, 1) := by decide +kernel
theorem dL_law_991 : decode cL_law 991 = .ok (.iload_n 3, 1) := by decide +kernel
theorem dL_law_992 : decode cL_law 992 = .ok (.iconst 1, 1) := by decide +kernel
theorem dL_law_993 : decode cL_law 993 = .ok (.iadd, 1) := by decide +kernel
theorem dL_law_994 : decode cL_law 994 = .ok (.iaload, 1) := by decide +kernel
theorem dL_law_995 : decode cL_law 995 = .ok (.invokevirtual 113, 3) := by decide +kernel
theorem dL_law_998 : decode cL_law 998 = .ok (.aload_n 2, 1) := by decide +kernel
theorem dL_law_999 : decode cL_law 999 = .ok (.aload_n 0, 1) := by decide +kernel
theorem dL_law_1000 : decode cL_law 1000 = .ok (.iload_n 3, 1) := by decide +kernel
theorem dL_law_1001 : decode cL_law 1001 = .ok (.iconst 1, 1) := by decide +kernel
theorem dL_law_1002 : decode cL_law 1002 = .ok (.iadd, 1) := by decide +kernel
theorem dL_law_1003 : decode cL_law 1003 = .ok (.iaload, 1) := by decide +kernel
theorem dL_law_1004 : decode cL_law 1004 = .ok (.invokevirtual 117, 3) := by decide +kernel
theorem dL_law_1007 : decode cL_law 1007 = .ok (.lcmp, 1) := by decide +kernel
theorem dL_law_1008 : decode cL_law 1008 = .ok (.ifCond .eq 28, 3) := by decide +kernel
theorem dL_law_1011 : decode cL_law 1011 = .ok (.iconst 0, 1) := by decide +kernel
theorem dL_law_1012 : decode cL_law 1012 = .ok (.ireturn, 1) := by decide +kernel
theorem dL_law_1013 : decode cL_law 1013 = .ok (.aload_n 1, 1) := by decide +kernel
theorem dL_law_1014 : decode cL_law 1014 = .ok (.aload_n 0, 1) := by decide +kernel
theorem dL_law_1015 : decode cL_law 1015 = .ok (.iload_n 3, 1) := by decide +kernel
theorem dL_law_1016 : decode cL_law 1016 = .ok (.iconst 1, 1) := by decide +kernel
theorem dL_law_1017 : decode cL_law 1017 = .ok (.iadd, 1) := by decide +kernel
theorem dL_law_1018 : decode cL_law 1018 = .ok (.iaload, 1) := by decide +kernel
theorem dL_law_1019 : decode cL_law 1019 = .ok (.invokevirtual 118, 3) := by decide +kernel
theorem dL_law_1022 : decode cL_law 1022 = .ok (.aload_n 2, 1) := by decide +kernel
theorem dL_law_1023 : decode cL_law 1023 = .ok (.aload_n 0, 1) := by decide +kernel
theorem dL_law_1024 : decode cL_law 1024 = .ok (.iload_n 3, 1) := by decide +kernel
theorem dL_law_1025 : decode cL_law 1025 = .ok (.iconst 1, 1) := by decide +kernel
theorem dL_law_1026 : decode cL_law 1026 = .ok (.iadd, 1) := by decide +kernel
theorem dL_law_1027 : decode cL_law 1027 = .ok (.iaload, 1) := by decide +kernel
theorem dL_law_1028 : decode cL_law 1028 = .ok (.invokevirtual 121, 3) := by decide +kernel
theorem dL_law_1031 : decode cL_law 1031 = .ok (.if_icmp .eq 5, 3) := by decide +kernel
theorem dL_law_1034 : decode cL_law 1034 = .ok (.iconst 0, 1) := by decide +kernel
theorem dL_law_1035 : decode cL_law 1035 = .ok (.ireturn, 1) := by decide +kernel
theorem dL_law_1036 : decode cL_law 1036 = .ok (.iinc 3 6, 3) := by decide +kernel
theorem dL_law_1039 : decode cL_law 1039 = .ok (.goto (-1021), 3) := by decide +kernel
theorem dL_law_1042 : decode cL_law 1042 = .ok (.iconst 1, 1) := by decide +kernel
theorem dL_law_1043 : decode cL_law 1043 = .ok (.ireturn, 1) := by decide +kernel
